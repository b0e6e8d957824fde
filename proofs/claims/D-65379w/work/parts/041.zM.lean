set_option maxRecDepth 100000
set_option maxHeartbeats 4000000
noncomputable def zX8_feed_44_b (N : Nat) (k44 : Int64 → Int32 → fv_S → Option fv_O) (x1 : Int64) (x4 : Int32) (σ : fv_S) : Option fv_O :=
  if x4 < 0 then
    fv_ri (fv_gi σ 1) σ
  else
    if fv_in (fv_gi σ 1) 6000 then
      k44 x1 (x4 + ((-1) : Int32)) (fv_si (fv_sa σ 1 (fv_gi σ 1) (Int64.toInt32 ((x1 >>> (((8 : Int32) * x4 : Int32).toInt64 &&& (63 : Int64))) &&& (255 : Int64)))) 1 ((fv_gi σ 1) + (1 : Int32)))
    else none
noncomputable def zX8_feed_44 (N : Nat) : Nat → Int64 → Int32 → fv_S → Option fv_O
  | 0, _, _, _ => none
  | n + 1, x1, x4, σ => zX8_feed_44_b N (zX8_feed_44 N n) x1 x4 σ
noncomputable def zX8_feed (N : Nat) (x1 : Int64) (x3 : Int32) (σ : fv_S) : Option fv_O :=
  if x3 < 0 then
    fv_ri (-2) σ
  else
    if x3 ≤ (8 : Int32) then
      if ¬ x3 = 0 then
        if ((fv_gi σ 1) + x3) ≤ (6000 : Int32) then
          zX8_feed_44 N N x1 (x3 - (1 : Int32)) σ
        else
          fv_ri (-4) σ
      else
        fv_ri 0 (fv_si σ 1 0)
    else
      fv_ri (-2) σ
noncomputable def zX8_wrong (x1 : Int32) (x2 : Int32) (σ : fv_S) : Option fv_O :=
  if ¬ (fv_gi σ 8) = 0 then
    fv_ri 0 σ
  else
    fv_ri 0 (fv_si (fv_si σ 8 x1) 9 x2)
noncomputable def zX8_isDone_4_b (N : Nat) (k4 : Int32 → Int32 → fv_S → Option fv_O) (x1 : Int32) (x2 : Int32) (σ : fv_S) : Option fv_O :=
  if (fv_gi σ 45) ≤ x2 then
    if x1 = 0 ∨ x1 = 1 then fv_ri x1 σ else none
  else
    if fv_in x2 9 then
      k4 (x1 &&& (fv_ga σ 15 x2)) (x2 + (1 : Int32)) σ
    else none
noncomputable def zX8_isDone_4 (N : Nat) : Nat → Int32 → Int32 → fv_S → Option fv_O
  | 0, _, _, _ => none
  | n + 1, x1, x2, σ => zX8_isDone_4_b N (zX8_isDone_4 N n) x1 x2 σ
noncomputable def zX8_isDone (N : Nat) (σ : fv_S) : Option fv_O :=
  zX8_isDone_4 N N 1 0 σ
noncomputable def zX8_byteAt (x1 : Int32) (σ : fv_S) : Option fv_O :=
  if (fv_gi σ 1) ≤ x1 then
    fv_ri 10 σ
  else
    if fv_in x1 6000 then
      fv_ri (fv_ga σ 1 x1) σ
    else none
noncomputable def zX8_isBlank (x1 : Int32) (σ : fv_S) : Option fv_O :=
  if x1 = (32 : Int32) then
    fv_ri 1 σ
  else
    if x1 = (9 : Int32) then
      fv_ri 1 σ
    else
      if ¬ x1 = (13 : Int32) then
        fv_ri 0 σ
      else
        fv_ri 1 σ
noncomputable def zX8_capital (x1 : Int32) (σ : fv_S) : Option fv_O :=
  if x1 < (97 : Int32) then
    fv_ri x1 σ
  else
    if (122 : Int32) < x1 then
      fv_ri x1 σ
    else
      fv_ri (x1 - (32 : Int32)) σ
noncomputable def zX8_isStart_18 (x1 : Int32) (σ : fv_S) : Option fv_O :=
  if ¬ x1 = (95 : Int32) then
    fv_ri 0 σ
  else
    fv_ri 1 σ
noncomputable def zX8_isStart (x1 : Int32) (σ : fv_S) : Option fv_O :=
  fv_bi (zX8_capital x1 σ) (fun r2 σ1 =>
    if r2 < (65 : Int32) then
      zX8_isStart_18 x1 σ1
    else
      if r2 ≤ (90 : Int32) then
        fv_ri 1 σ1
      else
        zX8_isStart_18 x1 σ1) fv_no
noncomputable def zX8_isDigit (x1 : Int32) (σ : fv_S) : Option fv_O :=
  if x1 < (48 : Int32) then
    fv_ri 0 σ
  else
    if (57 : Int32) < x1 then
      fv_ri 0 σ
    else
      fv_ri 1 σ
noncomputable def zX8_anyName_115 (N : Nat) (k57 : Int64 → Int32 → fv_S → Option fv_O) (x3 : Int32) (s0 : Int64) (σ : fv_S) : Option fv_O :=
  k57 s0 (x3 + (1 : Int32)) (fv_si σ 2 ((fv_gi σ 2) + (1 : Int32)))
noncomputable def zX8_anyName_87 (N : Nat) (k57 : Int64 → Int32 → fv_S → Option fv_O) (x1 : Int64) (x3 : Int32) (σ : fv_S) : Option fv_O :=
  if (8 : Int32) ≤ x3 then
    zX8_anyName_115 N k57 x3 0 σ
  else
    fv_bi (zX8_byteAt (fv_gi σ 2) σ) (fun r2 σ1 =>
      fv_bi (zX8_capital r2 σ1) (fun r4 σ3 =>
        zX8_anyName_115 N k57 x3 ((x1 <<< ((8 : Int32).toInt64 &&& (63 : Int64))) ||| (Int32.toInt64 r4)) σ3) fv_no) fv_no
noncomputable def zX8_anyName_57_b (N : Nat) (k57 : Int64 → Int32 → fv_S → Option fv_O) (x1 : Int64) (x3 : Int32) (σ : fv_S) : Option fv_O :=
  fv_bi (zX8_byteAt (fv_gi σ 2) σ) (fun r6 σ5 =>
    fv_bi (zX8_isStart r6 σ5) (fun r8 σ7 =>
      if ¬ r8 = 0 then
        zX8_anyName_87 N k57 x1 x3 σ7
      else
        fv_bi (zX8_byteAt (fv_gi σ7 2) σ7) (fun r10 σ9 =>
          fv_bi (zX8_isDigit r10 σ9) (fun r12 σ11 =>
            if r12 = 0 then
              if x3 ≤ (8 : Int32) then
                fv_rl x1 σ11
              else
                fv_rl 0 σ11
            else
              zX8_anyName_87 N k57 x1 x3 σ11) fv_no) fv_no) fv_no) fv_no
noncomputable def zX8_anyName_57 (N : Nat) : Nat → Int64 → Int32 → fv_S → Option fv_O
  | 0, _, _, _ => none
  | n + 1, x1, x3, σ => zX8_anyName_57_b N (zX8_anyName_57 N n) x1 x3 σ
noncomputable def zX8_anyName_0_b (N : Nat) (k0 : fv_S → Option fv_O) (σ : fv_S) : Option fv_O :=
  fv_bi (zX8_byteAt (fv_gi σ 2) σ) (fun r14 σ13 =>
    fv_bi (zX8_isBlank r14 σ13) (fun r16 σ15 =>
      if r16 = 0 then
        fv_bi (zX8_byteAt (fv_gi σ15 2) (fv_si σ15 4 (fv_gi σ15 2))) (fun r18 σ17 =>
          fv_bi (zX8_isStart r18 σ17) (fun r20 σ19 =>
            if ¬ r20 = 0 then
              zX8_anyName_57 N N 0 0 σ19
            else
              fv_rl 0 σ19) fv_no) fv_no
      else
        k0 (fv_si σ15 2 ((fv_gi σ15 2) + (1 : Int32)))) fv_no) fv_no
noncomputable def zX8_anyName_0 (N : Nat) : Nat → fv_S → Option fv_O
  | 0, _ => none
  | n + 1, σ => zX8_anyName_0_b N (zX8_anyName_0 N n) σ
noncomputable def zX8_anyName (N : Nat) (σ : fv_S) : Option fv_O := zX8_anyName_0 N N σ
noncomputable def zX8_refuse_13 (s1 : Int32) (σ : fv_S) : Option fv_O :=
  fv_bi (zX8_wrong s1 (fv_gi σ 4) σ) (fun r2 σ1 =>
    if r2 = 0 ∨ r2 = 1 then fv_ri r2 σ1 else none) fv_no
noncomputable def zX8_refuse (σ : fv_S) : Option fv_O :=
  if ¬ (fv_gi σ 3) = 0 then
    zX8_refuse_13 2 σ
  else
    zX8_refuse_13 1 σ
noncomputable def zX8_turn_109 (s1 : Int32) (s2 : Int32) (σ : fv_S) : Option fv_O :=
  if fv_in s1 9 then
    if fv_in ((fv_gi σ 45) - (1 : Int32)) 9 then
      fv_ri 1 (fv_sa (fv_sa σ 15 s1 (vp_nar .boolean s2)) 16 ((fv_gi σ 45) - (1 : Int32)) (vp_nar .boolean 1))
    else none
  else none
noncomputable def zX8_turn_75 (x5 : Int32) (σ : fv_S) : Option fv_O :=
  if x5 = 0 then
    fv_ri 1 (fv_si σ 45 ((fv_gi σ 45) - (1 : Int32)))
  else
    if fv_in ((fv_gi σ 45) - (1 : Int32)) 9 then
      if ¬ (fv_ga σ 15 ((fv_gi σ 45) - (1 : Int32))) = 0 then
        zX8_turn_109 ((fv_gi σ 45) - (1 : Int32)) 0 σ
      else
        zX8_turn_109 ((fv_gi σ 45) - (1 : Int32)) 1 σ
    else none
noncomputable def zX8_turn_57 (x4 : Int32) (x5 : Int32) (σ : fv_S) : Option fv_O :=
  if ¬ x4 = 0 then
    zX8_turn_75 x5 σ
  else
    if (fv_gi σ 3) = (1 : Int32) then
      zX8_turn_75 x5 σ
    else
      fv_bi (zX8_refuse σ) (fun r5 σ4 =>
        if r5 = 0 ∨ r5 = 1 then fv_ri r5 σ4 else none) fv_no
noncomputable def zX8_turn_28 (x1 : Int32) (x4 : Int32) (s0 : Int32) (σ : fv_S) : Option fv_O :=
  if s0 = 0 then
    zX8_turn_57 x4 s0 σ
  else
    if fv_in ((fv_gi σ 45) - (1 : Int32)) 9 then
      if (fv_ga σ 16 ((fv_gi σ 45) - (1 : Int32))) = 0 then
        zX8_turn_57 x4 s0 σ
      else
        fv_bi (zX8_wrong 7 x1 σ) (fun r9 σ8 =>
          if r9 = 0 ∨ r9 = 1 then fv_ri r9 σ8 else none) fv_no
    else none
noncomputable def zX8_turn (x1 : Int32) (x2 : Int64) (x4 : Int32) (σ : fv_S) : Option fv_O :=
  if ¬ (fv_gi σ 45) = 0 then
    if ¬ (lg_cmp x2 (1162629957 : Int64)) = 0 then
      zX8_turn_28 x1 x4 0 σ
    else
      zX8_turn_28 x1 x4 1 σ
  else
    fv_bi (zX8_wrong 7 x1 σ) (fun r12 σ11 =>
      if r12 = 0 ∨ r12 = 1 then fv_ri r12 σ11 else none) fv_no
noncomputable def zX8_skipLine_152 (N : Nat) (x1 : Int64) (x3 : Int32) (σ : fv_S) : Option fv_O :=
  fv_bi (zX8_turn x3 x1 1 σ) (fun r2 σ1 =>
    if r2 = 0 ∨ r2 = 1 then fv_ri r2 σ1 else none) fv_no
noncomputable def zX8_skipLine_77 (N : Nat) (x1 : Int64) (x3 : Int32) (σ : fv_S) : Option fv_O :=
  if ¬ (lg_cmp x1 (18758 : Int64)) = 0 then
    if (lg_cmp x1 (1162629957 : Int64)) = 0 then
      zX8_skipLine_152 N x1 x3 σ
    else
      if (lg_cmp x1 (297665841478 : Int64)) = 0 then
        zX8_skipLine_152 N x1 x3 σ
      else
        fv_ri 1 σ
  else
    if ¬ (fv_gi σ 45) = (8 : Int32) then
      if fv_in (fv_gi σ 45) 9 then
        if fv_in (fv_gi σ 45) 9 then
          fv_ri 1 (fv_si (fv_sa (fv_sa σ 15 (fv_gi σ 45) (vp_nar .boolean 0)) 16 (fv_gi σ 45) (vp_nar .boolean 0)) 45 ((fv_gi σ 45) + (1 : Int32)))
        else none
      else none
    else
      fv_bi (zX8_wrong 7 x3 σ) (fun r7 σ6 =>
        if r7 = 0 ∨ r7 = 1 then fv_ri r7 σ6 else none) fv_no
noncomputable def zX8_skipLine_29_b (N : Nat) (k29 : Int64 → Int32 → Int32 → fv_S → Option fv_O) (x1 : Int64) (x3 : Int32) (x4 : Int32) (σ : fv_S) : Option fv_O :=
  fv_bi (zX8_byteAt x4 σ) (fun r10 σ9 =>
    fv_bi (zX8_isBlank r10 σ9) (fun r12 σ11 =>
      if r12 = 0 then
        fv_bi (zX8_byteAt x4 σ11) (fun r14 σ13 =>
          if ¬ r14 = (58 : Int32) then
            zX8_skipLine_77 N x1 x3 σ13
          else
            fv_bl (zX8_anyName N (fv_si σ13 2 (x4 + (1 : Int32)))) (fun r16 σ15 =>
              zX8_skipLine_77 N r16 (fv_gi σ15 4) σ15) fv_no) fv_no
      else
        k29 x1 x3 (x4 + (1 : Int32)) σ11) fv_no) fv_no
noncomputable def zX8_skipLine_29 (N : Nat) : Nat → Int64 → Int32 → Int32 → fv_S → Option fv_O
  | 0, _, _, _, _ => none
  | n + 1, x1, x3, x4, σ => zX8_skipLine_29_b N (zX8_skipLine_29 N n) x1 x3 x4 σ
noncomputable def zX8_skipLine (N : Nat) (σ : fv_S) : Option fv_O :=
  fv_bl (zX8_anyName N σ) (fun r18 σ17 =>
    if ¬ (fv_gi σ17 2) = (fv_gi σ17 4) then
      zX8_skipLine_29 N N r18 (fv_gi σ17 4) (fv_gi σ17 2) σ17
    else
      fv_ri 1 σ17) fv_no
noncomputable def zX8_name_129 (N : Nat) (x1 : Int32) (σ : fv_S) : Option fv_O :=
  fv_rv (fv_si σ 2 x1)
noncomputable def zX8_name_98 (N : Nat) (x1 : Int32) (σ : fv_S) : Option fv_O :=
  if ¬ (lg_cmp (fv_gl σ 7) (16710 : Int64)) = 0 then
    zX8_name_129 N x1 σ
  else
    fv_bi (zX8_byteAt x1 σ) (fun r2 σ1 =>
      if ¬ r2 = (39 : Int32) then
        zX8_name_129 N x1 σ1
      else
        zX8_name_129 N (x1 + (1 : Int32)) (fv_sl σ1 7 4277799)) fv_no
noncomputable def zX8_name_59_b (N : Nat) (k59 : Int32 → Int32 → Int32 → fv_S → Option fv_O) (x1 : Int32) (x2 : Int32) (x3 : Int32) (σ : fv_S) : Option fv_O :=
  if x1 ≤ x3 then
    zX8_name_98 N x1 σ
  else
    if (8 : Int32) < x2 then
      zX8_name_98 N x1 σ
    else
      fv_bi (zX8_byteAt x3 σ) (fun r4 σ3 =>
        fv_bi (zX8_capital r4 σ3) (fun r6 σ5 =>
          k59 x1 x2 (x3 + (1 : Int32)) (fv_sl σ5 7 (((fv_gl σ 7) <<< ((8 : Int32).toInt64 &&& (63 : Int64))) ||| (Int32.toInt64 r6)))) fv_no) fv_no
noncomputable def zX8_name_59 (N : Nat) : Nat → Int32 → Int32 → Int32 → fv_S → Option fv_O
  | 0, _, _, _, _ => none
  | n + 1, x1, x2, x3, σ => zX8_name_59_b N (zX8_name_59 N n) x1 x2 x3 σ
noncomputable def zX8_name_5_b (N : Nat) (k5 : Int32 → fv_S → Option fv_O) (x1 : Int32) (σ : fv_S) : Option fv_O :=
  fv_bi (zX8_byteAt x1 σ) (fun r8 σ7 =>
    fv_bi (zX8_isStart r8 σ7) (fun r10 σ9 =>
      if ¬ r10 = 0 then
        k5 (x1 + (1 : Int32)) σ9
      else
        fv_bi (zX8_byteAt x1 σ9) (fun r12 σ11 =>
          fv_bi (zX8_isDigit r12 σ11) (fun r14 σ13 =>
            if r14 = 0 then
              if (x1 - (fv_gi σ13 2)) ≤ (12 : Int32) then
                zX8_name_59 N N x1 (x1 - (fv_gi σ13 2)) (fv_gi σ13 2) (fv_si σ13 3 2)
              else
                fv_rv σ13
            else
              k5 (x1 + (1 : Int32)) σ13) fv_no) fv_no) fv_no) fv_no
noncomputable def zX8_name_5 (N : Nat) : Nat → Int32 → fv_S → Option fv_O
  | 0, _, _ => none
  | n + 1, x1, σ => zX8_name_5_b N (zX8_name_5 N n) x1 σ
noncomputable def zX8_name (N : Nat) (σ : fv_S) : Option fv_O :=
  zX8_name_5 N N (fv_gi σ 2) σ
noncomputable def zX8_worth (x1 : Int32) (σ : fv_S) : Option fv_O :=
  fv_bi (zX8_capital x1 σ) (fun r2 σ1 =>
    fv_bi (zX8_isDigit x1 σ1) (fun r4 σ3 =>
      if r4 = 0 then
        if r2 < (65 : Int32) then
          fv_ri 99 σ3
        else
          if (70 : Int32) < r2 then
            fv_ri 99 σ3
          else
            fv_ri (r2 - (55 : Int32)) σ3
      else
        fv_ri (x1 - (48 : Int32)) σ3) fv_no) fv_no
noncomputable def zX8_digits_5_b (N : Nat) (k5 : Int32 → Int32 → Int32 → Int32 → fv_S → Option fv_O) (x1 : Int32) (x2 : Int32) (x3 : Int32) (x4 : Int32) (σ : fv_S) : Option fv_O :=
  fv_bi (zX8_byteAt x3 σ) (fun r2 σ1 =>
    fv_bi (zX8_worth r2 σ1) (fun r4 σ3 =>
      if x1 ≤ r4 then
        if x3 = x2 then
          fv_rv σ3
        else
          if x4 ≤ (65535 : Int32) then
            fv_rv (fv_si (fv_si (fv_si σ3 3 3) 6 x4) 2 x3)
          else
            fv_rv σ3
      else
        if x4 ≤ (65535 : Int32) then
          fv_bi (zX8_byteAt x3 σ3) (fun r6 σ5 =>
            fv_bi (zX8_worth r6 σ5) (fun r8 σ7 =>
              k5 x1 x2 (x3 + (1 : Int32)) ((x4 * x1) + r8) σ7) fv_no) fv_no
        else
          k5 x1 x2 (x3 + (1 : Int32)) x4 σ3) fv_no) fv_no
noncomputable def zX8_digits_5 (N : Nat) : Nat → Int32 → Int32 → Int32 → Int32 → fv_S → Option fv_O
  | 0, _, _, _, _, _ => none
  | n + 1, x1, x2, x3, x4, σ => zX8_digits_5_b N (zX8_digits_5 N n) x1 x2 x3 x4 σ
noncomputable def zX8_digits (N : Nat) (x1 : Int32) (x2 : Int32) (σ : fv_S) : Option fv_O :=
  zX8_digits_5 N N x1 x2 x2 0 σ
noncomputable def zX8_readSign_49 (s1 : Int32) (σ : fv_S) : Option fv_O :=
  fv_rv (fv_si (fv_si σ 6 s1) 2 ((fv_gi σ 2) + (2 : Int32)))
noncomputable def zX8_readSign_146 (x1 : Int32) (s0 : Int32) (σ : fv_S) : Option fv_O :=
  if ¬ s0 = 0 then
    fv_rv (fv_si (fv_si (fv_si σ 3 5) 6 x1) 2 ((fv_gi σ 2) + (1 : Int32)))
  else
    fv_rv σ
noncomputable def zX8_readSign_141 (x1 : Int32) (σ : fv_S) : Option fv_O :=
  zX8_readSign_146 x1 1 σ
noncomputable def zX8_readSign_63 (x1 : Int32) (σ : fv_S) : Option fv_O :=
  if x1 = (40 : Int32) then
    zX8_readSign_141 x1 σ
  else
    if x1 = (41 : Int32) then
      zX8_readSign_141 x1 σ
    else
      if x1 = (44 : Int32) then
        zX8_readSign_141 x1 σ
      else
        if x1 = (58 : Int32) then
          zX8_readSign_141 x1 σ
        else
          if x1 = (43 : Int32) then
            zX8_readSign_141 x1 σ
          else
            if x1 = (45 : Int32) then
              zX8_readSign_141 x1 σ
            else
              if x1 = (42 : Int32) then
                zX8_readSign_141 x1 σ
              else
                if x1 = (47 : Int32) then
                  zX8_readSign_141 x1 σ
                else
                  if x1 = (38 : Int32) then
                    zX8_readSign_141 x1 σ
                  else
                    if x1 = (124 : Int32) then
                      zX8_readSign_141 x1 σ
                    else
                      if x1 = (94 : Int32) then
                        zX8_readSign_141 x1 σ
                      else
                        if x1 = (126 : Int32) then
                          zX8_readSign_141 x1 σ
                        else
                          if ¬ x1 = (64 : Int32) then
                            zX8_readSign_146 x1 0 σ
                          else
                            zX8_readSign_141 x1 σ
noncomputable def zX8_readSign_23 (x1 : Int32) (x2 : Int32) (σ : fv_S) : Option fv_O :=
  if ¬ x2 = x1 then
    zX8_readSign_63 x1 σ
  else
    if ¬ x1 = (60 : Int32) then
      zX8_readSign_49 301 (fv_si σ 3 5)
    else
      zX8_readSign_49 300 (fv_si σ 3 5)
noncomputable def zX8_readSign (x1 : Int32) (σ : fv_S) : Option fv_O :=
  fv_bi (zX8_byteAt ((fv_gi σ 2) + (1 : Int32)) σ) (fun r2 σ1 =>
    if x1 = (60 : Int32) then
      zX8_readSign_23 x1 r2 σ1
    else
      if ¬ x1 = (62 : Int32) then
        zX8_readSign_63 x1 σ1
      else
        zX8_readSign_23 x1 r2 σ1) fv_no
noncomputable def zX8_next_321 (N : Nat) (σ : fv_S) : Option fv_O :=
  fv_rv (fv_si σ 5 (fv_gi σ 2))
noncomputable def zX8_next_72_b (N : Nat) (k72 : fv_S → Option fv_O) (σ : fv_S) : Option fv_O :=
  fv_bi (zX8_byteAt (fv_gi σ 4) σ) (fun r2 σ1 =>
    if r2 = (10 : Int32) then
      zX8_next_321 N σ1
    else
      k72 (fv_si σ1 4 ((fv_gi σ1 4) + (1 : Int32)))) fv_no
noncomputable def zX8_next_72 (N : Nat) : Nat → fv_S → Option fv_O
  | 0, _ => none
  | n + 1, σ => zX8_next_72_b N (zX8_next_72 N n) σ
noncomputable def zX8_next_67 (N : Nat) (σ : fv_S) : Option fv_O :=
  zX8_next_72 N N (fv_si σ 3 1)
noncomputable def zX8_next_291 (N : Nat) (x2 : Int32) (σ : fv_S) : Option fv_O :=
  fv_bi (zX8_byteAt x2 σ) (fun r4 σ3 =>
    if ¬ r4 = (34 : Int32) then
      zX8_next_321 N σ3
    else
      zX8_next_321 N (fv_si (fv_si σ3 3 4) 2 (x2 + (1 : Int32)))) fv_no
noncomputable def zX8_next_255_b (N : Nat) (k255 : Int32 → fv_S → Option fv_O) (x2 : Int32) (σ : fv_S) : Option fv_O :=
  fv_bi (zX8_byteAt x2 σ) (fun r6 σ5 =>
    if r6 < (32 : Int32) then
      zX8_next_291 N x2 σ5
    else
      fv_bi (zX8_byteAt x2 σ5) (fun r8 σ7 =>
        if (126 : Int32) < r8 then
          zX8_next_291 N x2 σ7
        else
          fv_bi (zX8_byteAt x2 σ7) (fun r10 σ9 =>
            if r10 = (34 : Int32) then
              zX8_next_291 N x2 σ9
            else
              k255 (x2 + (1 : Int32)) σ9) fv_no) fv_no) fv_no
noncomputable def zX8_next_255 (N : Nat) : Nat → Int32 → fv_S → Option fv_O
  | 0, _, _ => none
  | n + 1, x2, σ => zX8_next_255_b N (zX8_next_255 N n) x2 σ
noncomputable def zX8_next_0_b (N : Nat) (k0 : fv_S → Option fv_O) (σ : fv_S) : Option fv_O :=
  fv_bi (zX8_byteAt (fv_gi σ 2) σ) (fun r12 σ11 =>
    fv_bi (zX8_isBlank r12 σ11) (fun r14 σ13 =>
      if r14 = 0 then
        fv_bi (zX8_byteAt (fv_gi σ13 2) (fv_si σ13 4 (fv_gi σ13 2))) (fun r16 σ15 =>
          if r16 = (10 : Int32) then
            zX8_next_67 N (fv_sl (fv_si σ15 3 0) 7 0)
          else
            if ¬ r16 = (59 : Int32) then
              fv_bi (zX8_isStart r16 (fv_sl (fv_si σ15 3 0) 7 0)) (fun r18 σ17 =>
                if r18 = 0 then
                  fv_bi (zX8_isDigit r16 σ17) (fun r20 σ19 =>
                    if r20 = 0 then
                      if ¬ r16 = (36 : Int32) then
                        if ¬ r16 = (37 : Int32) then
                          if ¬ r16 = (39 : Int32) then
                            if ¬ r16 = (34 : Int32) then
                              fv_bv (zX8_readSign r16 σ19) (fun σ21 =>
                                zX8_next_321 N σ21) fv_no
                            else
                              zX8_next_255 N N ((fv_gi σ19 2) + (1 : Int32)) σ19
                          else
                            fv_bi (zX8_byteAt ((fv_gi σ19 2) + (1 : Int32)) σ19) (fun r23 σ22 =>
                              if r23 < (32 : Int32) then
                                zX8_next_321 N σ22
                              else
                                if (126 : Int32) < r23 then
                                  zX8_next_321 N σ22
                                else
                                  fv_bi (zX8_byteAt ((fv_gi σ22 2) + (2 : Int32)) σ22) (fun r25 σ24 =>
                                    if ¬ r25 = (39 : Int32) then
                                      zX8_next_321 N σ24
                                    else
                                      zX8_next_321 N (fv_si (fv_si (fv_si σ24 3 3) 6 r23) 2 ((fv_gi σ24 2) + (3 : Int32)))) fv_no) fv_no
                        else
                          fv_bv (zX8_digits N 2 ((fv_gi σ19 2) + (1 : Int32)) σ19) (fun σ26 =>
                            zX8_next_321 N σ26) fv_no
                      else
                        fv_bv (zX8_digits N 16 ((fv_gi σ19 2) + (1 : Int32)) σ19) (fun σ27 =>
                          zX8_next_321 N σ27) fv_no
                    else
                      fv_bv (zX8_digits N 10 (fv_gi σ19 2) σ19) (fun σ28 =>
                        zX8_next_321 N σ28) fv_no) fv_no
                else
                  fv_bv (zX8_name N σ17) (fun σ29 =>
                    zX8_next_321 N σ29) fv_no) fv_no
            else
              zX8_next_67 N (fv_sl (fv_si σ15 3 0) 7 0)) fv_no
      else
        k0 (fv_si σ13 2 ((fv_gi σ13 2) + (1 : Int32)))) fv_no) fv_no
noncomputable def zX8_next_0 (N : Nat) : Nat → fv_S → Option fv_O
  | 0, _ => none
  | n + 1, σ => zX8_next_0_b N (zX8_next_0 N n) σ
noncomputable def zX8_next (N : Nat) (σ : fv_S) : Option fv_O := zX8_next_0 N N σ
noncomputable def zX8_isSign (x1 : Int32) (σ : fv_S) : Option fv_O :=
  if ¬ (fv_gi σ 3) = (5 : Int32) then
    fv_ri 0 σ
  else
    if ¬ (fv_gi σ 6) = x1 then
      fv_ri 0 σ
    else
      fv_ri 1 σ
noncomputable def zX8_isRegister (x1 : Int64) (σ : fv_S) : Option fv_O :=
  if (lg_cmp x1 (65 : Int64)) = 0 then
    fv_ri 1 σ
  else
    if (lg_cmp x1 (66 : Int64)) = 0 then
      fv_ri 1 σ
    else
      if (lg_cmp x1 (67 : Int64)) = 0 then
        fv_ri 1 σ
      else
        if (lg_cmp x1 (68 : Int64)) = 0 then
          fv_ri 1 σ
        else
          if (lg_cmp x1 (69 : Int64)) = 0 then
            fv_ri 1 σ
          else
            if (lg_cmp x1 (72 : Int64)) = 0 then
              fv_ri 1 σ
            else
              if (lg_cmp x1 (76 : Int64)) = 0 then
                fv_ri 1 σ
              else
                if (lg_cmp x1 (73 : Int64)) = 0 then
                  fv_ri 1 σ
                else
                  if (lg_cmp x1 (82 : Int64)) = 0 then
                    fv_ri 1 σ
                  else
                    if (lg_cmp x1 (16710 : Int64)) = 0 then
                      fv_ri 1 σ
                    else
                      if (lg_cmp x1 (4277799 : Int64)) = 0 then
                        fv_ri 1 σ
                      else
                        if (lg_cmp x1 (16963 : Int64)) = 0 then
                          fv_ri 1 σ
                        else
                          if (lg_cmp x1 (17477 : Int64)) = 0 then
                            fv_ri 1 σ
                          else
                            if (lg_cmp x1 (18508 : Int64)) = 0 then
                              fv_ri 1 σ
                            else
                              if (lg_cmp x1 (21328 : Int64)) = 0 then
                                fv_ri 1 σ
                              else
                                if (lg_cmp x1 (18776 : Int64)) = 0 then
                                  fv_ri 1 σ
                                else
                                  if (lg_cmp x1 (18777 : Int64)) = 0 then
                                    fv_ri 1 σ
                                  else
                                    if (lg_cmp x1 (20058 : Int64)) = 0 then
                                      fv_ri 1 σ
                                    else
                                      if (lg_cmp x1 (90 : Int64)) = 0 then
                                        fv_ri 1 σ
                                      else
                                        if (lg_cmp x1 (20035 : Int64)) = 0 then
                                          fv_ri 1 σ
                                        else
                                          if (lg_cmp x1 (20559 : Int64)) = 0 then
                                            fv_ri 1 σ
                                          else
                                            if (lg_cmp x1 (20549 : Int64)) = 0 then
                                              fv_ri 1 σ
                                            else
                                              if (lg_cmp x1 (80 : Int64)) = 0 then
                                                fv_ri 1 σ
                                              else
                                                if ¬ (lg_cmp x1 (77 : Int64)) = 0 then
                                                  fv_ri 0 σ
                                                else
                                                  fv_ri 1 σ
noncomputable def zX8_isStatement (x1 : Int64) (σ : fv_S) : Option fv_O :=
  if (lg_cmp x1 (5198407 : Int64)) = 0 then
    fv_ri 1 σ
  else
    if (lg_cmp x1 (17474 : Int64)) = 0 then
      fv_ri 1 σ
    else
      if (lg_cmp x1 (17495 : Int64)) = 0 then
        fv_ri 1 σ
      else
        if (lg_cmp x1 (17491 : Int64)) = 0 then
          fv_ri 1 σ
        else
          if (lg_cmp x1 (18758 : Int64)) = 0 then
            fv_ri 1 σ
          else
            if (lg_cmp x1 (1162629957 : Int64)) = 0 then
              fv_ri 1 σ
            else
              if ¬ (lg_cmp x1 (297665841478 : Int64)) = 0 then
                fv_ri 0 σ
              else
                fv_ri 1 σ
noncomputable def zX8_plain (x1 : Int64) (σ : fv_S) : Option fv_O :=
  if ¬ (lg_cmp x1 (5132112 : Int64)) = 0 then
    if ¬ (lg_cmp x1 (1380729665 : Int64)) = 0 then
      if ¬ (lg_cmp x1 (1381122881 : Int64)) = 0 then
        if ¬ (lg_cmp x1 (5393473 : Int64)) = 0 then
          if ¬ (lg_cmp x1 (5395009 : Int64)) = 0 then
            if ¬ (lg_cmp x1 (4473153 : Int64)) = 0 then
              if ¬ (lg_cmp x1 (4411468 : Int64)) = 0 then
                if ¬ (lg_cmp x1 (5456710 : Int64)) = 0 then
                  if ¬ (lg_cmp x1 (4408134 : Int64)) = 0 then
                    if ¬ (lg_cmp x1 (1212238932 : Int64)) = 0 then
                      if ¬ (lg_cmp x1 (4544600 : Int64)) = 0 then
                        if ¬ (lg_cmp x1 (17481 : Int64)) = 0 then
                          if ¬ (lg_cmp x1 (17737 : Int64)) = 0 then
                            if ¬ (lg_cmp x1 (5129543 : Int64)) = 0 then
                              if ¬ (lg_cmp x1 (1380275278 : Int64)) = 0 then
                                if ¬ (lg_cmp x1 (1380275273 : Int64)) = 0 then
                                  if ¬ (lg_cmp x1 (5395012 : Int64)) = 0 then
                                    if ¬ (lg_cmp x1 (5393476 : Int64)) = 0 then
                                      if ¬ (lg_cmp x1 (4998217 : Int64)) = 0 then
                                        if ¬ (lg_cmp x1 (4411465 : Int64)) = 0 then
                                          if ¬ (lg_cmp x1 (4804169 : Int64)) = 0 then
                                            if ¬ (lg_cmp x1 (1330992201 : Int64)) = 0 then
                                              if ¬ (lg_cmp x1 (4998212 : Int64)) = 0 then
                                                if ¬ (lg_cmp x1 (4411460 : Int64)) = 0 then
                                                  if ¬ (lg_cmp x1 (4804164 : Int64)) = 0 then
                                                    if ¬ (lg_cmp x1 (1330992196 : Int64)) = 0 then
                                                      if ¬ (lg_cmp x1 (1279543634 : Int64)) = 0 then
                                                        if ¬ (lg_cmp x1 (1129335122 : Int64)) = 0 then
                                                          if ¬ (lg_cmp x1 (1229867346 : Int64)) = 0 then
                                                            if ¬ (lg_cmp x1 (1330923858 : Int64)) = 0 then
                                                              if ¬ (lg_cmp x1 (1279542354 : Int64)) = 0 then
                                                                if ¬ (lg_cmp x1 (1129333842 : Int64)) = 0 then
                                                                  if ¬ (lg_cmp x1 (1229866066 : Int64)) = 0 then
                                                                    if ¬ (lg_cmp x1 (1330922578 : Int64)) = 0 then
                                                                      fv_ri (-1) σ
                                                                    else
                                                                      fv_ri 443 σ
                                                                  else
                                                                    fv_ri 442 σ
                                                                else
                                                                  fv_ri 441 σ
                                                              else
                                                                fv_ri 440 σ
                                                            else
                                                              fv_ri 435 σ
                                                          else
                                                            fv_ri 434 σ
                                                        else
                                                          fv_ri 433 σ
                                                      else
                                                        fv_ri 432 σ
                                                    else
                                                      fv_ri 427 σ
                                                  else
                                                    fv_ri 426 σ
                                                else
                                                  fv_ri 425 σ
                                              else
                                                fv_ri 424 σ
                                            else
                                              fv_ri 419 σ
                                          else
                                            fv_ri 418 σ
                                        else
                                          fv_ri 417 σ
                                      else
                                        fv_ri 416 σ
                                    else
                                      fv_ri 367 σ
                                  else
                                    fv_ri 359 σ
                                else
                                  fv_ri 333 σ
                              else
                                fv_ri 325 σ
                            else
                              fv_ri 324 σ
                          else
                            fv_ri 251 σ
                        else
                          fv_ri 243 σ
                      else
                        fv_ri 217 σ
                    else
                      fv_ri 118 σ
                  else
                    fv_ri 63 σ
                else
                  fv_ri 55 σ
              else
                fv_ri 47 σ
            else
              fv_ri 39 σ
          else
            fv_ri 31 σ
        else
          fv_ri 23 σ
      else
        fv_ri 15 σ
    else
      fv_ri 7 σ
  else
    fv_ri 0 σ
noncomputable def zX8_isMany (x1 : Int64) (σ : fv_S) : Option fv_O :=
  if (lg_cmp x1 (17752 : Int64)) = 0 then
    fv_ri 1 σ
  else
    if (lg_cmp x1 (1145720410 : Int64)) = 0 then
      fv_ri 1 σ
    else
      if (lg_cmp x1 (19026 : Int64)) = 0 then
        fv_ri 1 σ
      else
        if (lg_cmp x1 (19524 : Int64)) = 0 then
          fv_ri 1 σ
        else
          if (lg_cmp x1 (4804163 : Int64)) = 0 then
            fv_ri 1 σ
          else
            if (lg_cmp x1 (4474179 : Int64)) = 0 then
              fv_ri 1 σ
            else
              if (lg_cmp x1 (4277316 : Int64)) = 0 then
                fv_ri 1 σ
              else
                if (lg_cmp x1 (4277315 : Int64)) = 0 then
                  fv_ri 1 σ
                else
                  if (lg_cmp x1 (5461314 : Int64)) = 0 then
                    fv_ri 1 σ
                  else
                    if (lg_cmp x1 (5456451 : Int64)) = 0 then
                      fv_ri 1 σ
                    else
                      if (lg_cmp x1 (4279876 : Int64)) = 0 then
                        fv_ri 1 σ
                      else
                        if (lg_cmp x1 (5787474 : Int64)) = 0 then
                          fv_ri 1 σ
                        else
                          if (lg_cmp x1 (20306 : Int64)) = 0 then
                            fv_ri 1 σ
                          else
                            if (lg_cmp x1 (17232 : Int64)) = 0 then
                              fv_ri 1 σ
                            else
                              if (lg_cmp x1 (5391700 : Int64)) = 0 then
                                fv_ri 1 σ
                              else
                                if (lg_cmp x1 (5263184 : Int64)) = 0 then
                                  fv_ri 1 σ
                                else
                                  if (lg_cmp x1 (1347769160 : Int64)) = 0 then
                                    fv_ri 1 σ
                                  else
                                    if (lg_cmp x1 (19024 : Int64)) = 0 then
                                      fv_ri 1 σ
                                    else
                                      if (lg_cmp x1 (1128352844 : Int64)) = 0 then
                                        fv_ri 1 σ
                                      else
                                        if (lg_cmp x1 (5395284 : Int64)) = 0 then
                                          fv_ri 1 σ
                                        else
                                          if (lg_cmp x1 (5199188 : Int64)) = 0 then
                                            fv_ri 1 σ
                                          else
                                            if (lg_cmp x1 (18766 : Int64)) = 0 then
                                              fv_ri 1 σ
                                            else
                                              if (lg_cmp x1 (5393475 : Int64)) = 0 then
                                                fv_ri 1 σ
                                              else
                                                if (lg_cmp x1 (5395011 : Int64)) = 0 then
                                                  fv_ri 1 σ
                                                else
                                                  if (lg_cmp x1 (21068 : Int64)) = 0 then
                                                    fv_ri 1 σ
                                                  else
                                                    if (lg_cmp x1 (21074 : Int64)) = 0 then
                                                      fv_ri 1 σ
                                                    else
                                                      if (lg_cmp x1 (5459009 : Int64)) = 0 then
                                                        fv_ri 1 σ
                                                      else
                                                        if (lg_cmp x1 (5460545 : Int64)) = 0 then
                                                          fv_ri 1 σ
                                                        else
                                                          if (lg_cmp x1 (5460556 : Int64)) = 0 then
                                                            fv_ri 1 σ
                                                          else
                                                            if (lg_cmp x1 (4344148 : Int64)) = 0 then
                                                              fv_ri 1 σ
                                                            else
                                                              if (lg_cmp x1 (5391699 : Int64)) = 0 then
                                                                fv_ri 1 σ
                                                              else
                                                                if (lg_cmp x1 (5457236 : Int64)) = 0 then
                                                                  fv_ri 1 σ
                                                                else
                                                                  if ¬ (lg_cmp x1 (18765 : Int64)) = 0 then
                                                                    fv_ri 0 σ
                                                                  else
                                                                    fv_ri 1 σ
noncomputable def zX8_isReserved (x1 : Int64) (σ : fv_S) : Option fv_O :=
  fv_bi (zX8_isRegister x1 σ) (fun r2 σ1 =>
    if ¬ r2 = 0 then
      fv_ri 1 σ1
    else
      fv_bi (zX8_isStatement x1 σ1) (fun r4 σ3 =>
        if ¬ r4 = 0 then
          fv_ri 1 σ3
        else
          fv_bi (zX8_plain x1 σ3) (fun r6 σ5 =>
            if (0 : Int32) ≤ r6 then
              fv_ri 1 σ5
            else
              fv_bi (zX8_isMany x1 σ5) (fun r8 σ7 =>
                if ¬ r8 = 0 then
                  fv_ri 1 σ7
                else
                  if ¬ (lg_cmp x1 (4542805 : Int64)) = 0 then
                    fv_ri 0 σ7
                  else
                    fv_ri 1 σ7) fv_no) fv_no) fv_no) fv_no
noncomputable def zX8_find_86 (N : Nat) (k2 : Int32 → Int32 → Int32 → fv_S → Option fv_O) (x1 : Int32) (x2 : Int32) (x3 : Int32) (x4 : Int32) (σ : fv_S) : Option fv_O :=
  if x4 = 0 then
    k2 x1 x2 (x3 + (1 : Int32)) σ
  else
    fv_ri x3 σ
noncomputable def zX8_find_32_b (N : Nat) (k2 : Int32 → Int32 → Int32 → fv_S → Option fv_O) (k32 : Int32 → Int32 → Int32 → Int32 → Int32 → fv_S → Option fv_O) (x1 : Int32) (x2 : Int32) (x3 : Int32) (x4 : Int32) (x5 : Int32) (σ : fv_S) : Option fv_O :=
  if (x2 - x1) ≤ x5 then
    zX8_find_86 N k2 x1 x2 x3 x4 σ
  else
    if x4 = 0 then
      zX8_find_86 N k2 x1 x2 x3 x4 σ
    else
      if fv_in (((12 : Int32) * x3) + x5) 2400 then
        if fv_in (x1 + x5) 6000 then
          fv_bi (zX8_capital (fv_ga σ 1 (x1 + x5)) σ) (fun r4 σ3 =>
            if ¬ (fv_ga σ 2 (((12 : Int32) * x3) + x5)) = r4 then
              k32 x1 x2 x3 0 (x5 + (1 : Int32)) σ3
            else
              k32 x1 x2 x3 1 (x5 + (1 : Int32)) σ3) fv_no
        else none
      else none
noncomputable def zX8_find_32 (N : Nat) (k2 : Int32 → Int32 → Int32 → fv_S → Option fv_O) : Nat → Int32 → Int32 → Int32 → Int32 → Int32 → fv_S → Option fv_O
  | 0, _, _, _, _, _, _ => none
  | n + 1, x1, x2, x3, x4, x5, σ => zX8_find_32_b N k2 (zX8_find_32 N k2 n) x1 x2 x3 x4 x5 σ
noncomputable def zX8_find_2_b (N : Nat) (k2 : Int32 → Int32 → Int32 → fv_S → Option fv_O) (x1 : Int32) (x2 : Int32) (x3 : Int32) (σ : fv_S) : Option fv_O :=
  if (fv_gi σ 13) ≤ x3 then
    fv_ri (-1) σ
  else
    if fv_in x3 200 then
      if ¬ (fv_ga σ 3 x3) = (x2 - x1) then
        zX8_find_32 N k2 N x1 x2 x3 0 0 σ
      else
        zX8_find_32 N k2 N x1 x2 x3 1 0 σ
    else none
noncomputable def zX8_find_2 (N : Nat) : Nat → Int32 → Int32 → Int32 → fv_S → Option fv_O
  | 0, _, _, _, _ => none
  | n + 1, x1, x2, x3, σ => zX8_find_2_b N (zX8_find_2 N n) x1 x2 x3 σ
noncomputable def zX8_find (N : Nat) (x1 : Int32) (x2 : Int32) (σ : fv_S) : Option fv_O :=
  zX8_find_2 N N x1 x2 0 σ
noncomputable def zX8_addName_3_b (N : Nat) (k3 : Int32 → Int32 → Int32 → Int32 → fv_S → Option fv_O) (x1 : Int32) (x2 : Int32) (x3 : Int32) (x4 : Int32) (σ : fv_S) : Option fv_O :=
  if x2 ≤ x4 then
    if fv_in (fv_gi σ 13) 200 then
      if fv_in (fv_gi σ 13) 200 then
        fv_rv (fv_si (fv_sa (fv_sa σ 3 (fv_gi σ 13) (x2 - x1)) 4 (fv_gi σ 13) x3) 13 ((fv_gi σ 13) + (1 : Int32)))
      else none
    else none
  else
    if fv_in x4 6000 then
      fv_bi (zX8_capital (fv_ga σ 1 x4) σ) (fun r5 σ4 =>
        if fv_in ((((12 : Int32) * (fv_gi σ 13)) + x4) - x1) 2400 then
          k3 x1 x2 x3 (x4 + (1 : Int32)) (fv_sa σ4 2 ((((12 : Int32) * (fv_gi σ 13)) + x4) - x1) r5)
        else none) fv_no
    else none
noncomputable def zX8_addName_3 (N : Nat) : Nat → Int32 → Int32 → Int32 → Int32 → fv_S → Option fv_O
  | 0, _, _, _, _, _ => none
  | n + 1, x1, x2, x3, x4, σ => zX8_addName_3_b N (zX8_addName_3 N n) x1 x2 x3 x4 σ
noncomputable def zX8_addName (N : Nat) (x1 : Int32) (x2 : Int32) (x3 : Int32) (σ : fv_S) : Option fv_O :=
  zX8_addName_3 N N x1 x2 x3 x1 σ
noncomputable def zX8_tell_36 (N : Nat) (x1 : Int32) (σ : fv_S) : Option fv_O :=
  fv_bi (zX8_wrong 3 x1 σ) (fun r2 σ1 =>
    if r2 = 0 ∨ r2 = 1 then fv_ri r2 σ1 else none) fv_no
noncomputable def zX8_tell (N : Nat) (x1 : Int32) (x2 : Int32) (x3 : Int64) (x5 : Int32) (σ : fv_S) : Option fv_O :=
  if (fv_gi σ 42) = 0 then
    fv_bi (zX8_isReserved x3 σ) (fun r5 σ4 =>
      if ¬ r5 = 0 then
        zX8_tell_36 N x1 σ4
      else
        fv_bi (zX8_find N x1 x2 σ4) (fun r7 σ6 =>
          if (0 : Int32) ≤ r7 then
            zX8_tell_36 N x1 σ6
          else
            if ¬ (fv_gi σ6 13) = (200 : Int32) then
              fv_bv (zX8_addName N x1 x2 x5 σ6) (fun σ8 =>
                fv_ri 1 σ8) fv_no
            else
              zX8_tell_36 N x1 σ6) fv_no) fv_no
  else
    fv_ri 1 σ
noncomputable def zX8_push (x1 : Int32) (σ : fv_S) : Option fv_O :=
  if fv_in (fv_gi σ 16) 400 then
    if fv_in (fv_gi σ 16) 400 then
      fv_rv (fv_si (fv_sa (fv_sa σ 5 (fv_gi σ 16) x1) 6 (fv_gi σ 16) (fv_gi σ 4)) 16 ((fv_gi σ 16) + (1 : Int32)))
    else none
  else none
noncomputable def zX8_apply_83 (s1 : Int32) (s2 : Int32) (σ : fv_S) : Option fv_O :=
  if fv_in s1 400 then
    fv_ri 1 (fv_sa σ 7 s1 s2)
  else none
noncomputable def zX8_apply_30 (x2 : Int32) (σ : fv_S) : Option fv_O :=
  if ¬ x2 = (2 : Int32) then
    if fv_in ((fv_gi σ 18) - (1 : Int32)) 400 then
      zX8_apply_83 ((fv_gi σ 18) - (1 : Int32)) ((fv_ga σ 7 ((fv_gi σ 18) - (1 : Int32))) ^^^ ((-1) : Int32)) (fv_si σ 19 ((fv_gi σ 19) - (1 : Int32)))
    else none
  else
    if fv_in ((fv_gi σ 18) - (1 : Int32)) 400 then
      zX8_apply_83 ((fv_gi σ 18) - (1 : Int32)) (-(fv_ga σ 7 ((fv_gi σ 18) - (1 : Int32)))) (fv_si σ 19 ((fv_gi σ 19) - (1 : Int32)))
    else none
noncomputable def zX8_apply_278 (s1 : Int32) (s2 : Int32) (σ : fv_S) : Option fv_O :=
  if fv_in s1 400 then
    fv_ri 1 (fv_sa σ 7 s1 s2)
  else none
noncomputable def zX8_apply_152 (x2 : Int32) (x3 : Int32) (x4 : Int32) (σ : fv_S) : Option fv_O :=
  if ¬ x2 = (124 : Int32) then
    if ¬ x2 = (94 : Int32) then
      if ¬ x2 = (38 : Int32) then
        if ¬ x2 = (300 : Int32) then
          if ¬ x2 = (301 : Int32) then
            if ¬ x2 = (43 : Int32) then
              if ¬ x2 = (45 : Int32) then
                if ¬ x2 = (42 : Int32) then
                  if x4 = 0 then none else
                    zX8_apply_278 ((fv_gi σ 18) - (1 : Int32)) (x3 / x4) σ
                else
                  zX8_apply_278 ((fv_gi σ 18) - (1 : Int32)) (x3 * x4) σ
              else
                zX8_apply_278 ((fv_gi σ 18) - (1 : Int32)) (x3 - x4) σ
            else
              zX8_apply_278 ((fv_gi σ 18) - (1 : Int32)) (x3 + x4) σ
          else
            zX8_apply_278 ((fv_gi σ 18) - (1 : Int32)) (x3 >>> ((x4 &&& (31 : Int32)) &&& (31 : Int32))) σ
        else
          zX8_apply_278 ((fv_gi σ 18) - (1 : Int32)) (x3 <<< ((x4 &&& (31 : Int32)) &&& (31 : Int32))) σ
      else
        zX8_apply_278 ((fv_gi σ 18) - (1 : Int32)) (x3 &&& x4) σ
    else
      zX8_apply_278 ((fv_gi σ 18) - (1 : Int32)) (x3 ^^^ x4) σ
  else
    zX8_apply_278 ((fv_gi σ 18) - (1 : Int32)) (x3 ||| x4) σ
noncomputable def zX8_apply (x1 : Int32) (σ : fv_S) : Option fv_O :=
  if fv_in ((fv_gi σ 16) - (1 : Int32)) 400 then
    if (fv_ga σ 5 ((fv_gi σ 16) - (1 : Int32))) = (2 : Int32) then
      zX8_apply_30 (fv_ga σ 5 ((fv_gi σ 16) - (1 : Int32))) (fv_si σ 16 ((fv_gi σ 16) - (1 : Int32)))
    else
      if ¬ (fv_ga σ 5 ((fv_gi σ 16) - (1 : Int32))) = (3 : Int32) then
        if fv_in (((fv_gi σ 18) - (1 : Int32)) - (1 : Int32)) 400 then
          if fv_in ((fv_gi σ 18) - (1 : Int32)) 400 then
            if ¬ (fv_ga σ 5 ((fv_gi σ 16) - (1 : Int32))) = (47 : Int32) then
              zX8_apply_152 (fv_ga σ 5 ((fv_gi σ 16) - (1 : Int32))) (fv_ga σ 7 (((fv_gi σ 18) - (1 : Int32)) - (1 : Int32))) (fv_ga σ 7 ((fv_gi σ 18) - (1 : Int32))) (fv_si (fv_si σ 16 ((fv_gi σ 16) - (1 : Int32))) 18 ((fv_gi σ 18) - (1 : Int32)))
            else
              if ¬ (fv_ga σ 7 ((fv_gi σ 18) - (1 : Int32))) = 0 then
                zX8_apply_152 (fv_ga σ 5 ((fv_gi σ 16) - (1 : Int32))) (fv_ga σ 7 (((fv_gi σ 18) - (1 : Int32)) - (1 : Int32))) (fv_ga σ 7 ((fv_gi σ 18) - (1 : Int32))) (fv_si (fv_si σ 16 ((fv_gi σ 16) - (1 : Int32))) 18 ((fv_gi σ 18) - (1 : Int32)))
              else
                if x1 = 0 then
                  zX8_apply_152 (fv_ga σ 5 ((fv_gi σ 16) - (1 : Int32))) (fv_ga σ 7 (((fv_gi σ 18) - (1 : Int32)) - (1 : Int32))) 1 (fv_si (fv_si σ 16 ((fv_gi σ 16) - (1 : Int32))) 18 ((fv_gi σ 18) - (1 : Int32)))
                else
                  if fv_in ((fv_gi σ 16) - (1 : Int32)) 400 then
                    fv_bi (zX8_wrong 5 (fv_ga σ 6 ((fv_gi σ 16) - (1 : Int32))) (fv_si (fv_si σ 16 ((fv_gi σ 16) - (1 : Int32))) 18 ((fv_gi σ 18) - (1 : Int32)))) (fun r11 σ10 =>
                      if r11 = 0 ∨ r11 = 1 then fv_ri r11 σ10 else none) fv_no
                  else none
          else none
        else none
      else
        zX8_apply_30 (fv_ga σ 5 ((fv_gi σ 16) - (1 : Int32))) (fv_si σ 16 ((fv_gi σ 16) - (1 : Int32)))
  else none
noncomputable def zX8_unaries_37 (N : Nat) (k0 : Int32 → fv_S → Option fv_O) (x1 : Int32) (σ : fv_S) : Option fv_O :=
  fv_bi (zX8_apply x1 σ) (fun r2 σ1 =>
    k0 x1 σ1) fv_no
noncomputable def zX8_unaries_0_b (N : Nat) (k0 : Int32 → fv_S → Option fv_O) (x1 : Int32) (σ : fv_S) : Option fv_O :=
  if (fv_gi σ 16) ≤ 0 then
    fv_ri 1 σ
  else
    if fv_in ((fv_gi σ 16) - (1 : Int32)) 400 then
      if (fv_ga σ 5 ((fv_gi σ 16) - (1 : Int32))) = (2 : Int32) then
        zX8_unaries_37 N k0 x1 σ
      else
        if fv_in ((fv_gi σ 16) - (1 : Int32)) 400 then
          if ¬ (fv_ga σ 5 ((fv_gi σ 16) - (1 : Int32))) = (3 : Int32) then
            fv_ri 1 σ
          else
            zX8_unaries_37 N k0 x1 σ
        else none
    else none
noncomputable def zX8_unaries_0 (N : Nat) : Nat → Int32 → fv_S → Option fv_O
  | 0, _, _ => none
  | n + 1, x1, σ => zX8_unaries_0_b N (zX8_unaries_0 N n) x1 σ
noncomputable def zX8_unaries (N : Nat) (x1 : Int32) (σ : fv_S) : Option fv_O := zX8_unaries_0 N N x1 σ
noncomputable def zX8_operand_108 (N : Nat) (x1 : Int32) (x2 : Int32) (σ : fv_S) : Option fv_O :=
  if fv_in (fv_gi σ 18) 400 then
    fv_bv (zX8_next N (fv_si (fv_sa σ 7 (fv_gi σ 18) x2) 18 ((fv_gi σ 18) + (1 : Int32)))) (fun σ2 =>
      fv_bi (zX8_unaries N x1 σ2) (fun r4 σ3 =>
        if r4 = 0 ∨ r4 = 1 then fv_ri r4 σ3 else none) fv_no) fv_no
  else none
noncomputable def zX8_operand_99 (N : Nat) (x1 : Int32) (s0 : Int32) (σ : fv_S) : Option fv_O :=
  zX8_operand_108 N x1 s0 σ
noncomputable def zX8_operand_85 (N : Nat) (x1 : Int32) (x3 : Int32) (σ : fv_S) : Option fv_O :=
  if (0 : Int32) ≤ x3 then
    if fv_in x3 200 then
      zX8_operand_99 N x1 (fv_ga σ 4 x3) σ
    else none
  else
    zX8_operand_99 N x1 0 σ
noncomputable def zX8_operand_103 (N : Nat) (σ : fv_S) : Option fv_O :=
  fv_bi (zX8_refuse σ) (fun r8 σ7 =>
    if r8 = 0 ∨ r8 = 1 then fv_ri r8 σ7 else none) fv_no
noncomputable def zX8_operand (N : Nat) (x1 : Int32) (σ : fv_S) : Option fv_O :=
  if ¬ (fv_gi σ 3) = (3 : Int32) then
    fv_bi (zX8_isSign 64 σ) (fun r11 σ10 =>
      if r11 = 0 then
        if ¬ (fv_gi σ10 3) = (2 : Int32) then
          zX8_operand_103 N σ10
        else
          fv_bi (zX8_isReserved (fv_gl σ10 7) σ10) (fun r13 σ12 =>
            if ¬ r13 = 0 then
              zX8_operand_103 N σ12
            else
              fv_bi (zX8_find N (fv_gi σ12 4) (fv_gi σ12 5) σ12) (fun r15 σ14 =>
                if (0 : Int32) ≤ r15 then
                  zX8_operand_85 N x1 r15 σ14
                else
                  if x1 = 0 then
                    zX8_operand_85 N x1 r15 σ14
                  else
                    fv_bi (zX8_wrong 4 (fv_gi σ14 4) σ14) (fun r17 σ16 =>
                      if r17 = 0 ∨ r17 = 1 then fv_ri r17 σ16 else none) fv_no) fv_no) fv_no
      else
        zX8_operand_108 N x1 (fv_gi σ10 21) σ10) fv_no
  else
    zX8_operand_108 N x1 (fv_gi σ 6) σ
noncomputable def zX8_rank (x1 : Int32) (σ : fv_S) : Option fv_O :=
  if x1 = 38 then
    fv_ri 3 σ
  else if x1 = 42 then
    fv_ri 6 σ
  else if x1 = 43 then
    fv_ri 5 σ
  else if x1 = 45 then
    fv_ri 5 σ
  else if x1 = 47 then
    fv_ri 6 σ
  else if x1 = 94 then
    fv_ri 2 σ
  else if x1 = 124 then
    fv_ri 1 σ
  else if x1 = 300 then
    fv_ri 4 σ
  else if x1 = 301 then
    fv_ri 4 σ
  else 
    fv_ri 0 σ
noncomputable def zX8_behind_68 (N : Nat) (k0 : Int32 → fv_S → Option fv_O) (x1 : Int32) (x2 : Int32) (σ : fv_S) : Option fv_O :=
  if (0 : Int32) ≤ x2 then
    fv_bv (zX8_next N (fv_si (fv_si σ 16 ((fv_gi σ 16) - (1 : Int32))) 19 ((fv_gi σ 19) - (1 : Int32)))) (fun σ1 =>
      fv_bi (zX8_unaries N x1 σ1) (fun r3 σ2 =>
        k0 x1 σ2) fv_no) fv_no
  else
    fv_ri 0 σ
noncomputable def zX8_behind_36_b (N : Nat) (k0 : Int32 → fv_S → Option fv_O) (k36 : Int32 → Int32 → fv_S → Option fv_O) (x1 : Int32) (x2 : Int32) (σ : fv_S) : Option fv_O :=
  if (fv_gi σ 16) ≤ 0 then
    zX8_behind_68 N k0 x1 x2 σ
  else
    if fv_in ((fv_gi σ 16) - (1 : Int32)) 400 then
      if (fv_ga σ 5 ((fv_gi σ 16) - (1 : Int32))) = (1 : Int32) then
        zX8_behind_68 N k0 x1 x2 σ
      else
        fv_bi (zX8_apply x1 σ) (fun r6 σ5 =>
          if ¬ r6 = 0 then
            k36 x1 x2 σ5
          else
            fv_ri 0 σ5) fv_no
    else none
noncomputable def zX8_behind_36 (N : Nat) (k0 : Int32 → fv_S → Option fv_O) : Nat → Int32 → Int32 → fv_S → Option fv_O
  | 0, _, _, _ => none
  | n + 1, x1, x2, σ => zX8_behind_36_b N k0 (zX8_behind_36 N k0 n) x1 x2 σ
noncomputable def zX8_behind_16_b (N : Nat) (k0 : Int32 → fv_S → Option fv_O) (k16 : Int32 → Int32 → fv_S → Option fv_O) (x1 : Int32) (x2 : Int32) (σ : fv_S) : Option fv_O :=
  if x2 < 0 then
    zX8_behind_36 N k0 N x1 x2 σ
  else
    if fv_in x2 400 then
      if (fv_ga σ 5 x2) = (1 : Int32) then
        zX8_behind_36 N k0 N x1 x2 σ
      else
        k16 x1 (x2 + ((-1) : Int32)) σ
    else none
noncomputable def zX8_behind_16 (N : Nat) (k0 : Int32 → fv_S → Option fv_O) : Nat → Int32 → Int32 → fv_S → Option fv_O
  | 0, _, _, _ => none
  | n + 1, x1, x2, σ => zX8_behind_16_b N k0 (zX8_behind_16 N k0 n) x1 x2 σ
noncomputable def zX8_behind_179 (N : Nat) (x2 : Int32) (σ : fv_S) : Option fv_O :=
  if ¬ x2 = 0 then
    fv_bv (zX8_push (fv_gi σ 6) σ) (fun σ8 =>
      fv_bv (zX8_next N σ8) (fun σ9 =>
        fv_ri 1 σ9) fv_no) fv_no
  else
    fv_ri 0 σ
noncomputable def zX8_behind_128_b (N : Nat) (k128 : Int32 → Int32 → fv_S → Option fv_O) (x1 : Int32) (x2 : Int32) (σ : fv_S) : Option fv_O :=
  if (fv_gi σ 16) ≤ 0 then
    zX8_behind_179 N x2 σ
  else
    if fv_in ((fv_gi σ 16) - (1 : Int32)) 400 then
      if (fv_ga σ 5 ((fv_gi σ 16) - (1 : Int32))) = (1 : Int32) then
        zX8_behind_179 N x2 σ
      else
        if fv_in ((fv_gi σ 16) - (1 : Int32)) 400 then
          fv_bi (zX8_rank (fv_ga σ 5 ((fv_gi σ 16) - (1 : Int32))) σ) (fun r13 σ12 =>
            if r13 < x2 then
              zX8_behind_179 N x2 σ12
            else
              fv_bi (zX8_apply x1 σ12) (fun r15 σ14 =>
                if ¬ r15 = 0 then
                  k128 x1 x2 σ14
                else
                  fv_ri 0 σ14) fv_no) fv_no
        else none
    else none
noncomputable def zX8_behind_128 (N : Nat) : Nat → Int32 → Int32 → fv_S → Option fv_O
  | 0, _, _, _ => none
  | n + 1, x1, x2, σ => zX8_behind_128_b N (zX8_behind_128 N n) x1 x2 σ
noncomputable def zX8_behind_0_b (N : Nat) (k0 : Int32 → fv_S → Option fv_O) (x1 : Int32) (σ : fv_S) : Option fv_O :=
  fv_bi (zX8_isSign 41 σ) (fun r17 σ16 =>
    if r17 = 0 then
      if ¬ (fv_gi σ16 3) = (5 : Int32) then
        zX8_behind_128 N N x1 0 σ16
      else
        fv_bi (zX8_rank (fv_gi σ16 6) σ16) (fun r19 σ18 =>
          zX8_behind_128 N N x1 r19 σ18) fv_no
    else
      zX8_behind_16 N k0 N x1 ((fv_gi σ16 16) - (1 : Int32)) σ16) fv_no
noncomputable def zX8_behind_0 (N : Nat) : Nat → Int32 → fv_S → Option fv_O
  | 0, _, _ => none
  | n + 1, x1, σ => zX8_behind_0_b N (zX8_behind_0 N n) x1 σ
noncomputable def zX8_behind (N : Nat) (x1 : Int32) (σ : fv_S) : Option fv_O := zX8_behind_0 N N x1 σ
noncomputable def zX8_expression_84 (N : Nat) (k15 : Int32 → fv_S → Option fv_O) (x1 : Int32) (s1 : Int32) (σ : fv_S) : Option fv_O :=
  fv_bv (zX8_push s1 σ) (fun σ1 =>
    fv_bv (zX8_next N (fv_si σ1 19 ((fv_gi σ1 19) + (1 : Int32)))) (fun σ2 =>
      k15 x1 σ2) fv_no) fv_no
noncomputable def zX8_expression_42 (N : Nat) (k15 : Int32 → fv_S → Option fv_O) (x1 : Int32) (σ : fv_S) : Option fv_O :=
  if ¬ (fv_gi σ 19) = (40 : Int32) then
    if ¬ (fv_gi σ 6) = (40 : Int32) then
      if ¬ (fv_gi σ 6) = (45 : Int32) then
        zX8_expression_84 N k15 x1 3 σ
      else
        zX8_expression_84 N k15 x1 2 σ
    else
      zX8_expression_84 N k15 x1 1 σ
  else
    fv_bi (zX8_refuse σ) (fun r4 σ3 =>
      if r4 = 0 ∨ r4 = 1 then fv_ri r4 σ3 else none) fv_no
noncomputable def zX8_expression_139_b (N : Nat) (k139 : Int32 → fv_S → Option fv_O) (x1 : Int32) (σ : fv_S) : Option fv_O :=
  if (fv_gi σ 16) ≤ 0 then
    fv_ri 1 (fv_si σ 22 (fv_ga σ 7 0))
  else
    if fv_in ((fv_gi σ 16) - (1 : Int32)) 400 then
      if ¬ (fv_ga σ 5 ((fv_gi σ 16) - (1 : Int32))) = (1 : Int32) then
        fv_bi (zX8_apply x1 σ) (fun r8 σ7 =>
          if ¬ r8 = 0 then
            k139 x1 σ7
          else
            fv_ri 0 σ7) fv_no
      else
        fv_bi (zX8_refuse σ) (fun r10 σ9 =>
          if r10 = 0 ∨ r10 = 1 then fv_ri r10 σ9 else none) fv_no
    else none
noncomputable def zX8_expression_139 (N : Nat) : Nat → Int32 → fv_S → Option fv_O
  | 0, _, _ => none
  | n + 1, x1, σ => zX8_expression_139_b N (zX8_expression_139 N n) x1 σ
noncomputable def zX8_expression_15_b (N : Nat) (k15 : Int32 → fv_S → Option fv_O) (x1 : Int32) (σ : fv_S) : Option fv_O :=
  fv_bi (zX8_isSign 40 σ) (fun r13 σ12 =>
    if ¬ r13 = 0 then
      zX8_expression_42 N k15 x1 σ12
    else
      fv_bi (zX8_isSign 45 σ12) (fun r15 σ14 =>
        if ¬ r15 = 0 then
          zX8_expression_42 N k15 x1 σ14
        else
          fv_bi (zX8_isSign 126 σ14) (fun r17 σ16 =>
            if r17 = 0 then
              fv_bi (zX8_operand N x1 σ16) (fun r19 σ18 =>
                if ¬ r19 = 0 then
                  fv_bi (zX8_behind N x1 σ18) (fun r21 σ20 =>
                    if (fv_gi σ20 8) ≤ 0 then
                      if ¬ r21 = 0 then
                        k15 x1 σ20
                      else
                        zX8_expression_139 N N x1 σ20
                    else
                      fv_ri 0 σ20) fv_no
                else
                  fv_ri 0 σ18) fv_no
            else
              zX8_expression_42 N k15 x1 σ16) fv_no) fv_no) fv_no
noncomputable def zX8_expression_15 (N : Nat) : Nat → Int32 → fv_S → Option fv_O
  | 0, _, _ => none
  | n + 1, x1, σ => zX8_expression_15_b N (zX8_expression_15 N n) x1 σ
noncomputable def zX8_expression (N : Nat) (x1 : Int32) (σ : fv_S) : Option fv_O :=
  zX8_expression_15 N N x1 (fv_si (fv_si (fv_si σ 16 0) 18 0) 19 0)
noncomputable def zX8_equal_34 (N : Nat) (x1 : Int32) (σ : fv_S) : Option fv_O :=
  fv_bi (zX8_wrong 3 x1 σ) (fun r2 σ1 =>
    if r2 = 0 ∨ r2 = 1 then fv_ri r2 σ1 else none) fv_no
noncomputable def zX8_equal_68 (N : Nat) (σ : fv_S) : Option fv_O :=
  if (fv_gi σ 3) = (1 : Int32) then
    fv_ri 1 σ
  else
    fv_bi (zX8_refuse σ) (fun r5 σ4 =>
      if r5 = 0 then
        fv_ri 0 σ4
      else
        fv_ri 1 σ4) fv_no
noncomputable def zX8_equal_41 (N : Nat) (x1 : Int32) (x2 : Int32) (σ : fv_S) : Option fv_O :=
  fv_bi (zX8_expression N 1 σ) (fun r7 σ6 =>
    if ¬ r7 = 0 then
      if ¬ (fv_gi σ6 42) = 0 then
        zX8_equal_68 N σ6
      else
        fv_bv (zX8_addName N x1 x2 (fv_gi σ6 22) σ6) (fun σ8 =>
          zX8_equal_68 N σ8) fv_no
    else
      fv_ri 0 σ6) fv_no
noncomputable def zX8_equal (N : Nat) (x1 : Int32) (x2 : Int32) (x3 : Int64) (σ : fv_S) : Option fv_O :=
  if ¬ (fv_gi σ 42) = 0 then
    zX8_equal_41 N x1 x2 σ
  else
    fv_bi (zX8_isReserved x3 σ) (fun r10 σ9 =>
      if ¬ r10 = 0 then
        zX8_equal_34 N x1 σ9
      else
        fv_bi (zX8_find N x1 x2 σ9) (fun r12 σ11 =>
          if (0 : Int32) ≤ r12 then
            zX8_equal_34 N x1 σ11
          else
            if ¬ (fv_gi σ11 13) = (200 : Int32) then
              zX8_equal_41 N x1 x2 σ11
            else
              zX8_equal_34 N x1 σ11) fv_no) fv_no
noncomputable def zX8_lay_32 (σ : fv_S) : Option fv_O :=
  fv_rv (fv_si (fv_si σ 39 ((fv_gi σ 39) + (1 : Int32))) 20 ((fv_gi σ 20) + (1 : Int32)))
noncomputable def zX8_lay (x1 : Int32) (σ : fv_S) : Option fv_O :=
  if fv_in ((fv_gi σ 20) &&& (65535 : Int32)) 65536 then
    if ¬ (fv_gi σ 39) = 0 then
      zX8_lay_32 (fv_sa σ 14 ((fv_gi σ 20) &&& (65535 : Int32)) (x1 &&& (255 : Int32)))
    else
      zX8_lay_32 (fv_si (fv_sa σ 14 ((fv_gi σ 20) &&& (65535 : Int32)) (x1 &&& (255 : Int32))) 40 (fv_gi σ 20))
  else none
noncomputable def zX8_data_189 (N : Nat) (k8 : Int32 → Int32 → Int32 → Int32 → fv_S → Option fv_O) (x1 : Int32) (x2 : Int32) (x3 : Int32) (x4 : Int32) (σ : fv_S) : Option fv_O :=
  if ¬ (fv_gi σ 3) = (1 : Int32) then
    fv_bi (zX8_isSign 44 σ) (fun r2 σ1 =>
      if ¬ r2 = 0 then
        fv_bv (zX8_next N σ1) (fun σ3 =>
          k8 x1 x2 x3 x4 σ3) fv_no
      else
        fv_bi (zX8_refuse σ1) (fun r5 σ4 =>
          if r5 = 0 ∨ r5 = 1 then fv_ri r5 σ4 else none) fv_no) fv_no
  else
    if (x4 + x3) ≤ (65536 : Int32) then
      fv_ri 1 (fv_si σ 20 (x4 + x3))
    else
      fv_bi (zX8_wrong 8 x1 σ) (fun r8 σ7 =>
        if r8 = 0 ∨ r8 = 1 then fv_ri r8 σ7 else none) fv_no
noncomputable def zX8_data_28_b (N : Nat) (k8 : Int32 → Int32 → Int32 → Int32 → fv_S → Option fv_O) (k28 : Int32 → Int32 → Int32 → Int32 → Int32 → fv_S → Option fv_O) (x1 : Int32) (x2 : Int32) (x3 : Int32) (x4 : Int32) (x5 : Int32) (σ : fv_S) : Option fv_O :=
  if ((fv_gi σ 5) - (1 : Int32)) ≤ x5 then
    fv_bv (zX8_next N σ) (fun σ10 =>
      zX8_data_189 N k8 x1 x2 x3 x4 σ10) fv_no
  else
    if (fv_gi σ 42) = 0 then
      k28 x1 x2 (x3 + (1 : Int32)) x4 (x5 + (1 : Int32)) σ
    else
      if fv_in x5 6000 then
        fv_bv (zX8_lay (fv_ga σ 1 x5) σ) (fun σ12 =>
          k28 x1 x2 (x3 + (1 : Int32)) x4 (x5 + (1 : Int32)) σ12) fv_no
      else none
noncomputable def zX8_data_28 (N : Nat) (k8 : Int32 → Int32 → Int32 → Int32 → fv_S → Option fv_O) : Nat → Int32 → Int32 → Int32 → Int32 → Int32 → fv_S → Option fv_O
  | 0, _, _, _, _, _, _ => none
  | n + 1, x1, x2, x3, x4, x5, σ => zX8_data_28_b N k8 (zX8_data_28 N k8 n) x1 x2 x3 x4 x5 σ
noncomputable def zX8_data_156 (N : Nat) (x5 : Int32) (σ : fv_S) : Option fv_O :=
  fv_bi (zX8_wrong 5 x5 σ) (fun r14 σ13 =>
    if r14 = 0 ∨ r14 = 1 then fv_ri r14 σ13 else none) fv_no
noncomputable def zX8_data_164 (N : Nat) (k8 : Int32 → Int32 → Int32 → Int32 → fv_S → Option fv_O) (x1 : Int32) (x2 : Int32) (x3 : Int32) (x4 : Int32) (σ : fv_S) : Option fv_O :=
  fv_bv (zX8_lay (fv_gi σ 22) σ) (fun σ16 =>
    if x2 = 0 then
      zX8_data_189 N k8 x1 x2 x3 x4 σ16
    else
      fv_bv (zX8_lay ((fv_gi σ 22) >>> (8 : Int32)) σ16) (fun σ17 =>
        zX8_data_189 N k8 x1 x2 x3 x4 σ17) fv_no) fv_no
noncomputable def zX8_data_102 (N : Nat) (k8 : Int32 → Int32 → Int32 → Int32 → fv_S → Option fv_O) (x1 : Int32) (x2 : Int32) (x4 : Int32) (x5 : Int32) (s0 : Int32) (s1 : Int32) (σ : fv_S) : Option fv_O :=
  if (fv_gi σ 42) = 0 then
    zX8_data_189 N k8 x1 x2 (s0 + s1) x4 σ
  else
    if x2 = 0 then
      if (fv_gi σ 22) < ((-128) : Int32) then
        zX8_data_156 N x5 σ
      else
        if (fv_gi σ 22) ≤ (255 : Int32) then
          zX8_data_164 N k8 x1 x2 (s0 + s1) x4 σ
        else
          zX8_data_156 N x5 σ
    else
      if (fv_gi σ 22) < ((-32768) : Int32) then
        zX8_data_156 N x5 σ
      else
        if (fv_gi σ 22) ≤ (65535 : Int32) then
          zX8_data_164 N k8 x1 x2 (s0 + s1) x4 σ
        else
          zX8_data_156 N x5 σ
noncomputable def zX8_data_73 (N : Nat) (k8 : Int32 → Int32 → Int32 → Int32 → fv_S → Option fv_O) (x1 : Int32) (x2 : Int32) (x3 : Int32) (x4 : Int32) (σ : fv_S) : Option fv_O :=
  fv_bi (zX8_expression N (fv_gi σ 42) σ) (fun r19 σ18 =>
    if ¬ r19 = 0 then
      if x2 = 0 then
        zX8_data_102 N k8 x1 x2 x4 (fv_gi σ 4) x3 1 σ18
      else
        zX8_data_102 N k8 x1 x2 x4 (fv_gi σ 4) x3 2 σ18
    else
      fv_ri 0 σ18) fv_no
noncomputable def zX8_data_8_b (N : Nat) (k8 : Int32 → Int32 → Int32 → Int32 → fv_S → Option fv_O) (x1 : Int32) (x2 : Int32) (x3 : Int32) (x4 : Int32) (σ : fv_S) : Option fv_O :=
  if ¬ x2 = 0 then
    zX8_data_73 N k8 x1 x2 x3 x4 σ
  else
    if ¬ (fv_gi σ 3) = (4 : Int32) then
      zX8_data_73 N k8 x1 x2 x3 x4 σ
    else
      zX8_data_28 N k8 N x1 x2 x3 x4 ((fv_gi σ 4) + (1 : Int32)) σ
noncomputable def zX8_data_8 (N : Nat) : Nat → Int32 → Int32 → Int32 → Int32 → fv_S → Option fv_O
  | 0, _, _, _, _, _ => none
  | n + 1, x1, x2, x3, x4, σ => zX8_data_8_b N (zX8_data_8 N n) x1 x2 x3 x4 σ
noncomputable def zX8_data (N : Nat) (x1 : Int32) (x2 : Int32) (σ : fv_S) : Option fv_O :=
  zX8_data_8 N N x1 x2 0 (fv_gi σ 20) σ
noncomputable def zX8_space_30 (N : Nat) (x2 : Int32) (σ : fv_S) : Option fv_O :=
  fv_bi (zX8_wrong 5 x2 σ) (fun r2 σ1 =>
    if r2 = 0 ∨ r2 = 1 then fv_ri r2 σ1 else none) fv_no
noncomputable def zX8_space_99 (N : Nat) (x2 : Int32) (σ : fv_S) : Option fv_O :=
  fv_bi (zX8_wrong 5 x2 σ) (fun r5 σ4 =>
    if r5 = 0 ∨ r5 = 1 then fv_ri r5 σ4 else none) fv_no
noncomputable def zX8_space_160_b (N : Nat) (k160 : Int32 → Int32 → Int32 → fv_S → Option fv_O) (x3 : Int32) (x4 : Int32) (x5 : Int32) (σ : fv_S) : Option fv_O :=
  if x3 ≤ x5 then
    fv_ri 1 σ
  else
    fv_bv (zX8_lay x4 σ) (fun σ7 =>
      k160 x3 x4 (x5 + (1 : Int32)) σ7) fv_no
noncomputable def zX8_space_160 (N : Nat) : Nat → Int32 → Int32 → Int32 → fv_S → Option fv_O
  | 0, _, _, _, _ => none
  | n + 1, x3, x4, x5, σ => zX8_space_160_b N (zX8_space_160 N n) x3 x4 x5 σ
noncomputable def zX8_space_106 (N : Nat) (x1 : Int32) (x3 : Int32) (x4 : Int32) (σ : fv_S) : Option fv_O :=
  if (fv_gi σ 3) = (1 : Int32) then
    if ((fv_gi σ 20) + x3) ≤ (65536 : Int32) then
      if ¬ (fv_gi σ 42) = 0 then
        zX8_space_160 N N x3 x4 0 σ
      else
        fv_ri 1 (fv_si σ 20 ((fv_gi σ 20) + x3))
    else
      fv_bi (zX8_wrong 8 x1 σ) (fun r9 σ8 =>
        if r9 = 0 ∨ r9 = 1 then fv_ri r9 σ8 else none) fv_no
  else
    fv_bi (zX8_refuse σ) (fun r12 σ11 =>
      if r12 = 0 ∨ r12 = 1 then fv_ri r12 σ11 else none) fv_no
noncomputable def zX8_space (N : Nat) (x1 : Int32) (σ : fv_S) : Option fv_O :=
  fv_bi (zX8_expression N 1 σ) (fun r15 σ14 =>
    if ¬ r15 = 0 then
      if (fv_gi σ14 22) < 0 then
        zX8_space_30 N (fv_gi σ 4) σ14
      else
        if (fv_gi σ14 22) ≤ (65535 : Int32) then
          fv_bi (zX8_isSign 44 σ14) (fun r17 σ16 =>
            if r17 = 0 then
              zX8_space_106 N x1 (fv_gi σ14 22) 0 σ16
            else
              fv_bv (zX8_next N σ16) (fun σ18 =>
                fv_bi (zX8_expression N (fv_gi σ18 42) σ18) (fun r20 σ19 =>
                  if ¬ r20 = 0 then
                    if (fv_gi σ19 42) = 0 then
                      zX8_space_106 N x1 (fv_gi σ14 22) (fv_gi σ19 22) σ19
                    else
                      if (fv_gi σ19 22) < ((-128) : Int32) then
                        zX8_space_99 N (fv_gi σ18 4) σ19
                      else
                        if (fv_gi σ19 22) ≤ (255 : Int32) then
                          zX8_space_106 N x1 (fv_gi σ14 22) (fv_gi σ19 22) σ19
                        else
                          zX8_space_99 N (fv_gi σ18 4) σ19
                  else
                    fv_ri 0 σ19) fv_no) fv_no) fv_no
        else
          zX8_space_30 N (fv_gi σ 4) σ14
    else
      fv_ri 0 σ14) fv_no
noncomputable def zX8_directive_31 (N : Nat) (s1 : Int32) (s2 : Int32) (σ : fv_S) : Option fv_O :=
  fv_bi (zX8_data N s1 s2 σ) (fun r2 σ1 =>
    if r2 = 0 ∨ r2 = 1 then fv_ri r2 σ1 else none) fv_no
noncomputable def zX8_directive_16 (N : Nat) (x1 : Int32) (x2 : Int64) (σ : fv_S) : Option fv_O :=
  if ¬ (lg_cmp x2 (17495 : Int64)) = 0 then
    zX8_directive_31 N x1 0 σ
  else
    zX8_directive_31 N x1 1 σ
noncomputable def zX8_directive_75 (N : Nat) (x4 : Int32) (σ : fv_S) : Option fv_O :=
  fv_bi (zX8_wrong 5 x4 σ) (fun r5 σ4 =>
    if r5 = 0 ∨ r5 = 1 then fv_ri r5 σ4 else none) fv_no
noncomputable def zX8_directive_167 (N : Nat) (s0 : Int32) (σ : fv_S) : Option fv_O :=
  if (fv_gi σ 3) = (1 : Int32) then
    if fv_in (fv_gi σ 45) 9 then
      if fv_in (fv_gi σ 45) 9 then
        fv_ri 1 (fv_si (fv_sa (fv_sa σ 15 (fv_gi σ 45) (vp_nar .boolean s0)) 16 (fv_gi σ 45) (vp_nar .boolean 0)) 45 ((fv_gi σ 45) + (1 : Int32)))
      else none
    else none
  else
    fv_bi (zX8_refuse σ) (fun r10 σ9 =>
      if r10 = 0 ∨ r10 = 1 then fv_ri r10 σ9 else none) fv_no
noncomputable def zX8_directive (N : Nat) (x1 : Int32) (x2 : Int64) (σ : fv_S) : Option fv_O :=
  if (lg_cmp x2 (17474 : Int64)) = 0 then
    zX8_directive_16 N x1 x2 σ
  else
    if ¬ (lg_cmp x2 (17495 : Int64)) = 0 then
      if ¬ (lg_cmp x2 (5198407 : Int64)) = 0 then
        if ¬ (lg_cmp x2 (17491 : Int64)) = 0 then
          if ¬ (lg_cmp x2 (18758 : Int64)) = 0 then
            fv_bi (zX8_turn x1 x2 0 σ) (fun r13 σ12 =>
              if r13 = 0 ∨ r13 = 1 then fv_ri r13 σ12 else none) fv_no
          else
            if ¬ (fv_gi σ 45) = (8 : Int32) then
              fv_bi (zX8_expression N 1 σ) (fun r16 σ15 =>
                if ¬ r16 = 0 then
                  if (fv_gi σ15 22) = 0 then
                    zX8_directive_167 N 0 σ15
                  else
                    zX8_directive_167 N 1 σ15
                else
                  fv_ri 0 σ15) fv_no
            else
              fv_bi (zX8_wrong 7 x1 σ) (fun r18 σ17 =>
                if r18 = 0 ∨ r18 = 1 then fv_ri r18 σ17 else none) fv_no
        else
          fv_bi (zX8_space N x1 σ) (fun r21 σ20 =>
            if r21 = 0 ∨ r21 = 1 then fv_ri r21 σ20 else none) fv_no
      else
        fv_bi (zX8_expression N 1 σ) (fun r24 σ23 =>
          if ¬ r24 = 0 then
            if (fv_gi σ23 22) < 0 then
              zX8_directive_75 N (fv_gi σ 4) σ23
            else
              if (fv_gi σ23 22) ≤ (65535 : Int32) then
                if (fv_gi σ23 3) = (1 : Int32) then
                  fv_ri 1 (fv_si σ23 20 (fv_gi σ23 22))
                else
                  fv_bi (zX8_refuse σ23) (fun r26 σ25 =>
                    if r26 = 0 ∨ r26 = 1 then fv_ri r26 σ25 else none) fv_no
              else
                zX8_directive_75 N (fv_gi σ 4) σ23
          else
            fv_ri 0 σ23) fv_no
    else
      zX8_directive_16 N x1 x2 σ
noncomputable def zX8_endsOperand (σ : fv_S) : Option fv_O :=
  if (fv_gi σ 3) = (1 : Int32) then
    fv_ri 1 σ
  else
    fv_bi (zX8_isSign 44 σ) (fun r2 σ1 =>
      if r2 = 0 then
        fv_ri 0 σ1
      else
        fv_ri 1 σ1) fv_no
noncomputable def zX8_goTo (N : Nat) (x1 : Int32) (σ : fv_S) : Option fv_O :=
  fv_bv (zX8_next N (fv_si σ 2 x1)) (fun σ1 =>
    fv_rv σ1) fv_no
noncomputable def zX8_isPlace_66 (N : Nat) (k12 : Int32 → Int32 → Int32 → Int32 → fv_S → Option fv_O) (x1 : Int32) (x3 : Int32) (x4 : Int32) (s0 : Int32) (s1 : Int32) (σ : fv_S) : Option fv_O :=
  fv_bv (zX8_next N σ) (fun σ1 =>
    if ¬ (s0 + s1) = 0 then
      k12 x1 (s0 + s1) x3 x4 σ1
    else
      fv_bi (zX8_endsOperand σ1) (fun r3 σ2 =>
        k12 x1 (s0 + s1) r3 0 σ2) fv_no) fv_no
noncomputable def zX8_isPlace_12_b (N : Nat) (k12 : Int32 → Int32 → Int32 → Int32 → fv_S → Option fv_O) (x1 : Int32) (x2 : Int32) (x3 : Int32) (x4 : Int32) (σ : fv_S) : Option fv_O :=
  if x4 = 0 then
    fv_bv (zX8_goTo N x1 σ) (fun σ4 =>
      if x3 = 0 ∨ x3 = 1 then fv_ri x3 σ4 else none) fv_no
  else
    if (fv_gi σ 3) = (1 : Int32) then
      k12 x1 x2 x3 0 σ
    else
      if ¬ (fv_gi σ 3) = 0 then
        fv_bi (zX8_isSign 40 σ) (fun r7 σ6 =>
          if r7 = 0 then
            fv_bi (zX8_isSign 41 σ6) (fun r9 σ8 =>
              if r9 = 0 then
                zX8_isPlace_66 N k12 x1 x3 x4 x2 0 σ8
              else
                zX8_isPlace_66 N k12 x1 x3 x4 x2 (-1) σ8) fv_no
          else
            zX8_isPlace_66 N k12 x1 x3 x4 x2 1 σ6) fv_no
      else
        k12 x1 x2 x3 0 σ
noncomputable def zX8_isPlace_12 (N : Nat) : Nat → Int32 → Int32 → Int32 → Int32 → fv_S → Option fv_O
  | 0, _, _, _, _, _ => none
  | n + 1, x1, x2, x3, x4, σ => zX8_isPlace_12_b N (zX8_isPlace_12 N n) x1 x2 x3 x4 σ
noncomputable def zX8_isPlace (N : Nat) (σ : fv_S) : Option fv_O :=
  zX8_isPlace_12 N N (fv_gi σ 4) 0 0 1 σ
noncomputable def zX8_index (x1 : Int64) (σ : fv_S) : Option fv_O :=
  if ¬ (lg_cmp x1 (18776 : Int64)) = 0 then
    if ¬ (lg_cmp x1 (18777 : Int64)) = 0 then
      fv_ri (-1) σ
    else
      fv_ri 2 σ
  else
    fv_ri 1 σ
noncomputable def zX8_readPlace_169 (N : Nat) (x1 : Int32) (x3 : Int64) (σ : fv_S) : Option fv_O :=
  if fv_in x1 8 then
    fv_bi (zX8_index x3 (fv_sa σ 8 x1 14)) (fun r3 σ2 =>
      if fv_in x1 8 then
        fv_bi (zX8_isSign 41 (fv_sa σ2 9 x1 r3)) (fun r6 σ5 =>
          if fv_in x1 8 then
            fv_bi (zX8_isSign 45 (fv_sa σ5 12 x1 (vp_nar .boolean r6))) (fun r9 σ8 =>
              if fv_in x1 8 then
                fv_bv (zX8_next N (fv_sa σ8 11 x1 (vp_nar .boolean r9))) (fun σ11 =>
                  if fv_in x1 8 then
                    if (fv_ga σ11 12 x1) = 0 then
                      if fv_in x1 8 then
                        fv_bi (zX8_expression N 0 (fv_sa σ11 10 x1 (fv_gi σ11 4))) (fun r15 σ14 =>
                          if ¬ r15 = 0 then
                            fv_bi (zX8_isSign 41 σ14) (fun r17 σ16 =>
                              if ¬ r17 = 0 then
                                fv_bv (zX8_next N σ16) (fun σ18 =>
                                  fv_bi (zX8_endsOperand σ18) (fun r20 σ19 =>
                                    if ¬ r20 = 0 then
                                      fv_ri 1 σ19
                                    else
                                      fv_bi (zX8_refuse σ19) (fun r22 σ21 =>
                                        if r22 = 0 then
                                          fv_ri 0 σ21
                                        else
                                          fv_ri 1 σ21) fv_no) fv_no) fv_no
                              else
                                fv_bi (zX8_refuse σ16) (fun r24 σ23 =>
                                  if r24 = 0 ∨ r24 = 1 then fv_ri r24 σ23 else none) fv_no) fv_no
                          else
                            fv_ri 0 σ14) fv_no
                      else none
                    else
                      fv_ri 1 σ11
                  else none) fv_no
              else none) fv_no
          else none) fv_no
      else none) fv_no
  else none
noncomputable def zX8_readPlace_290 (N : Nat) (x1 : Int32) (σ : fv_S) : Option fv_O :=
  if fv_in x1 8 then
    if fv_in x1 8 then
      fv_bi (zX8_expression N 0 (fv_sa (fv_sa σ 8 x1 15) 10 x1 (fv_gi σ 4))) (fun r29 σ28 =>
        if ¬ r29 = 0 then
          fv_bi (zX8_isSign 41 σ28) (fun r31 σ30 =>
            if ¬ r31 = 0 then
              fv_bv (zX8_next N σ30) (fun σ32 =>
                fv_bi (zX8_endsOperand σ32) (fun r34 σ33 =>
                  if ¬ r34 = 0 then
                    fv_ri 1 σ33
                  else
                    fv_bi (zX8_refuse σ33) (fun r36 σ35 =>
                      if r36 = 0 then
                        fv_ri 0 σ35
                      else
                        fv_ri 1 σ35) fv_no) fv_no) fv_no
            else
              fv_bi (zX8_refuse σ30) (fun r38 σ37 =>
                if r38 = 0 ∨ r38 = 1 then fv_ri r38 σ37 else none) fv_no) fv_no
        else
          fv_ri 0 σ28) fv_no
    else none
  else none
noncomputable def zX8_readPlace_285 (N : Nat) (x1 : Int32) (x2 : Int32) (σ : fv_S) : Option fv_O :=
  fv_bv (zX8_goTo N x2 σ) (fun σ40 =>
    zX8_readPlace_290 N x1 σ40) fv_no
noncomputable def zX8_readPlace_134 (N : Nat) (x1 : Int32) (x2 : Int32) (x3 : Int64) (σ : fv_S) : Option fv_O :=
  fv_bi (zX8_index x3 σ) (fun r42 σ41 =>
    if r42 ≤ 0 then
      zX8_readPlace_285 N x1 x2 σ41
    else
      fv_bi (zX8_isSign 41 σ41) (fun r44 σ43 =>
        if ¬ r44 = 0 then
          zX8_readPlace_169 N x1 x3 σ43
        else
          fv_bi (zX8_isSign 43 σ43) (fun r46 σ45 =>
            if ¬ r46 = 0 then
              zX8_readPlace_169 N x1 x3 σ45
            else
              fv_bi (zX8_isSign 45 σ45) (fun r48 σ47 =>
                if r48 = 0 then
                  zX8_readPlace_285 N x1 x2 σ47
                else
                  zX8_readPlace_169 N x1 x3 σ47) fv_no) fv_no) fv_no) fv_no
noncomputable def zX8_readPlace_104 (N : Nat) (x1 : Int32) (x2 : Int32) (x3 : Int64) (s0 : Int32) (σ : fv_S) : Option fv_O :=
  if s0 ≤ 0 then
    zX8_readPlace_134 N x1 x2 x3 σ
  else
    fv_bi (zX8_isSign 41 σ) (fun r50 σ49 =>
      if r50 = 0 then
        zX8_readPlace_134 N x1 x2 x3 σ49
      else
        if fv_in x1 8 then
          fv_bv (zX8_next N (fv_sa σ49 8 x1 s0)) (fun σ52 =>
            fv_ri 1 σ52) fv_no
        else none) fv_no
noncomputable def zX8_readPlace_27 (N : Nat) (x1 : Int32) (x2 : Int32) (x3 : Int64) (s0 : Int32) (σ : fv_S) : Option fv_O :=
  if s0 = 0 then
    zX8_readPlace_290 N x1 σ
  else
    fv_bv (zX8_next N σ) (fun σ53 =>
      if ¬ (lg_cmp x3 (18508 : Int64)) = 0 then
        if ¬ (lg_cmp x3 (16963 : Int64)) = 0 then
          if ¬ (lg_cmp x3 (17477 : Int64)) = 0 then
            if ¬ (lg_cmp x3 (21328 : Int64)) = 0 then
              if ¬ (lg_cmp x3 (67 : Int64)) = 0 then
                zX8_readPlace_104 N x1 x2 x3 0 σ53
              else
                zX8_readPlace_104 N x1 x2 x3 13 σ53
            else
              zX8_readPlace_104 N x1 x2 x3 12 σ53
          else
            zX8_readPlace_104 N x1 x2 x3 11 σ53
        else
          zX8_readPlace_104 N x1 x2 x3 10 σ53
      else
        zX8_readPlace_104 N x1 x2 x3 9 σ53) fv_no
noncomputable def zX8_readPlace (N : Nat) (x1 : Int32) (σ : fv_S) : Option fv_O :=
  fv_bv (zX8_next N σ) (fun σ54 =>
    if ¬ (fv_gi σ54 3) = (2 : Int32) then
      zX8_readPlace_27 N x1 (fv_gi σ54 4) (fv_gl σ54 7) 0 σ54
    else
      zX8_readPlace_27 N x1 (fv_gi σ54 4) (fv_gl σ54 7) 1 σ54) fv_no
noncomputable def zX8_register8 (x1 : Int64) (σ : fv_S) : Option fv_O :=
  if ¬ (lg_cmp x1 (66 : Int64)) = 0 then
    if ¬ (lg_cmp x1 (67 : Int64)) = 0 then
      if ¬ (lg_cmp x1 (68 : Int64)) = 0 then
        if ¬ (lg_cmp x1 (69 : Int64)) = 0 then
          if ¬ (lg_cmp x1 (72 : Int64)) = 0 then
            if ¬ (lg_cmp x1 (76 : Int64)) = 0 then
              if ¬ (lg_cmp x1 (65 : Int64)) = 0 then
                fv_ri (-1) σ
              else
                fv_ri 7 σ
            else
              fv_ri 5 σ
          else
            fv_ri 4 σ
        else
          fv_ri 3 σ
      else
        fv_ri 2 σ
    else
      fv_ri 1 σ
  else
    fv_ri 0 σ
noncomputable def zX8_pair (x1 : Int64) (σ : fv_S) : Option fv_O :=
  if ¬ (lg_cmp x1 (16963 : Int64)) = 0 then
    if ¬ (lg_cmp x1 (17477 : Int64)) = 0 then
      if ¬ (lg_cmp x1 (18508 : Int64)) = 0 then
        if ¬ (lg_cmp x1 (21328 : Int64)) = 0 then
          fv_ri (-1) σ
        else
          fv_ri 3 σ
      else
        fv_ri 2 σ
    else
      fv_ri 1 σ
  else
    fv_ri 0 σ
noncomputable def zX8_condition (x1 : Int64) (σ : fv_S) : Option fv_O :=
  if ¬ (lg_cmp x1 (20058 : Int64)) = 0 then
    if ¬ (lg_cmp x1 (90 : Int64)) = 0 then
      if ¬ (lg_cmp x1 (20035 : Int64)) = 0 then
        if ¬ (lg_cmp x1 (67 : Int64)) = 0 then
          if ¬ (lg_cmp x1 (20559 : Int64)) = 0 then
            if ¬ (lg_cmp x1 (20549 : Int64)) = 0 then
              if ¬ (lg_cmp x1 (80 : Int64)) = 0 then
                if ¬ (lg_cmp x1 (77 : Int64)) = 0 then
                  fv_ri (-1) σ
                else
                  fv_ri 7 σ
              else
                fv_ri 6 σ
            else
              fv_ri 5 σ
          else
            fv_ri 4 σ
        else
          fv_ri 3 σ
      else
        fv_ri 2 σ
    else
      fv_ri 1 σ
  else
    fv_ri 0 σ
noncomputable def zX8_setRegister_161 (s1 : Int32) (s2 : Int32) (σ : fv_S) : Option fv_O :=
  if fv_in s1 8 then
    fv_rv (fv_sa σ 8 s1 s2)
  else none
noncomputable def zX8_setRegister (x1 : Int32) (x2 : Int64) (σ : fv_S) : Option fv_O :=
  fv_bi (zX8_register8 x2 σ) (fun r3 σ2 =>
    if r3 < 0 then
      fv_bi (zX8_pair x2 σ2) (fun r5 σ4 =>
        if r5 < 0 then
          fv_bi (zX8_index x2 σ4) (fun r7 σ6 =>
            if r7 < 0 then
              fv_bi (zX8_condition x2 σ6) (fun r9 σ8 =>
                if r9 < 0 then
                  if ¬ (lg_cmp x2 (16710 : Int64)) = 0 then
                    if ¬ (lg_cmp x2 (4277799 : Int64)) = 0 then
                      if ¬ (lg_cmp x2 (73 : Int64)) = 0 then
                        zX8_setRegister_161 x1 7 σ8
                      else
                        zX8_setRegister_161 x1 6 σ8
                    else
                      zX8_setRegister_161 x1 4 σ8
                  else
                    zX8_setRegister_161 x1 3 σ8
                else
                  if fv_in x1 8 then
                    fv_bi (zX8_condition x2 (fv_sa σ8 8 x1 8)) (fun r12 σ11 =>
                      if fv_in x1 8 then
                        fv_rv (fv_sa σ11 9 x1 r12)
                      else none) fv_no
                  else none) fv_no
            else
              if fv_in x1 8 then
                fv_bi (zX8_index x2 (fv_sa σ6 8 x1 5)) (fun r16 σ15 =>
                  if fv_in x1 8 then
                    fv_rv (fv_sa σ15 9 x1 r16)
                  else none) fv_no
              else none) fv_no
        else
          if fv_in x1 8 then
            fv_bi (zX8_pair x2 (fv_sa σ4 8 x1 2)) (fun r20 σ19 =>
              if fv_in x1 8 then
                fv_rv (fv_sa σ19 9 x1 r20)
              else none) fv_no
          else none) fv_no
    else
      if fv_in x1 8 then
        fv_bi (zX8_register8 x2 (fv_sa σ2 8 x1 1)) (fun r24 σ23 =>
          if fv_in x1 8 then
            fv_rv (fv_sa σ23 9 x1 r24)
          else none) fv_no
      else none) fv_no
noncomputable def zX8_readOperand_148 (N : Nat) (σ : fv_S) : Option fv_O :=
  fv_bi (zX8_expression N 0 σ) (fun r2 σ1 =>
    if r2 = 0 ∨ r2 = 1 then fv_ri r2 σ1 else none) fv_no
noncomputable def zX8_readOperand_90 (N : Nat) (x1 : Int32) (σ : fv_S) : Option fv_O :=
  if ¬ (fv_gi σ 3) = (2 : Int32) then
    zX8_readOperand_148 N σ
  else
    fv_bi (zX8_isRegister (fv_gl σ 7) σ) (fun r5 σ4 =>
      if r5 = 0 then
        zX8_readOperand_148 N σ4
      else
        fv_bv (zX8_next N σ4) (fun σ6 =>
          fv_bi (zX8_endsOperand σ6) (fun r8 σ7 =>
            if r8 = 0 then
              fv_bv (zX8_goTo N (fv_gi σ4 4) σ7) (fun σ9 =>
                fv_bi (zX8_refuse σ9) (fun r11 σ10 =>
                  if r11 = 0 ∨ r11 = 1 then fv_ri r11 σ10 else none) fv_no) fv_no
            else
              fv_bv (zX8_setRegister x1 (fv_gl σ4 7) σ7) (fun σ13 =>
                fv_ri 1 σ13) fv_no) fv_no) fv_no) fv_no
noncomputable def zX8_readOperand_18 (N : Nat) (s0 : Int32) (σ : fv_S) : Option fv_O :=
  if fv_in s0 8 then
    if fv_in s0 8 then
      if fv_in s0 8 then
        if fv_in s0 8 then
          if fv_in s0 8 then
            fv_bi (zX8_isSign 40 (fv_si (fv_sa (fv_sa (fv_sa (fv_sa (fv_sa σ 8 s0 16) 9 s0 0) 10 s0 (fv_gi σ 4)) 11 s0 (vp_nar .boolean 0)) 12 s0 (vp_nar .boolean 0)) 28 ((fv_gi σ 28) + (1 : Int32)))) (fun r20 σ19 =>
              if r20 = 0 then
                zX8_readOperand_90 N s0 σ19
              else
                fv_bi (zX8_isPlace N σ19) (fun r22 σ21 =>
                  if r22 = 0 then
                    zX8_readOperand_90 N s0 σ21
                  else
                    fv_bi (zX8_readPlace N s0 σ21) (fun r24 σ23 =>
                      if r24 = 0 ∨ r24 = 1 then fv_ri r24 σ23 else none) fv_no) fv_no) fv_no
          else none
        else none
      else none
    else none
  else none
noncomputable def zX8_readOperand (N : Nat) (σ : fv_S) : Option fv_O :=
  if (8 : Int32) ≤ (fv_gi σ 28) then
    zX8_readOperand_18 N 7 σ
  else
    zX8_readOperand_18 N (fv_gi σ 28) σ
noncomputable def zX8_readOperands_51 (N : Nat) (σ : fv_S) : Option fv_O :=
  fv_bi (zX8_refuse σ) (fun r2 σ1 =>
    if r2 = 0 ∨ r2 = 1 then fv_ri r2 σ1 else none) fv_no
noncomputable def zX8_readOperands_15_b (N : Nat) (k15 : fv_S → Option fv_O) (σ : fv_S) : Option fv_O :=
  fv_bi (zX8_readOperand N σ) (fun r5 σ4 =>
    if ¬ r5 = 0 then
      if ¬ (fv_gi σ4 3) = (1 : Int32) then
        fv_bi (zX8_isSign 44 σ4) (fun r7 σ6 =>
          if r7 = 0 then
            zX8_readOperands_51 N σ6
          else
            if ¬ (fv_gi σ6 28) = (2 : Int32) then
              fv_bv (zX8_next N σ6) (fun σ8 =>
                k15 σ8) fv_no
            else
              zX8_readOperands_51 N σ6) fv_no
      else
        fv_ri 1 σ4
    else
      fv_ri 0 σ4) fv_no
noncomputable def zX8_readOperands_15 (N : Nat) : Nat → fv_S → Option fv_O
  | 0, _ => none
  | n + 1, σ => zX8_readOperands_15_b N (zX8_readOperands_15 N n) σ
noncomputable def zX8_readOperands (N : Nat) (σ : fv_S) : Option fv_O :=
  if ¬ (fv_gi σ 3) = (1 : Int32) then
    zX8_readOperands_15 N N (fv_si σ 28 0)
  else
    fv_ri 1 (fv_si σ 28 0)
noncomputable def zX8_give (x1 : Int32) (x2 : Int32) (x3 : Int32) (σ : fv_S) : Option fv_O :=
  fv_ri 1 (fv_si (fv_si (fv_si σ 29 x1) 30 x2) 31 x3)
noncomputable def zX8_conditionOf (x1 : Int32) (σ : fv_S) : Option fv_O :=
  if fv_in x1 8 then
    if ¬ (fv_ga σ 8 x1) = (8 : Int32) then
      if fv_in x1 8 then
        if ¬ (fv_ga σ 8 x1) = (1 : Int32) then
          fv_ri (-1) σ
        else
          if fv_in x1 8 then
            if ¬ (fv_ga σ 9 x1) = (1 : Int32) then
              fv_ri (-1) σ
            else
              fv_ri 3 σ
          else none
      else none
    else
      if fv_in x1 8 then
        fv_ri (fv_ga σ 9 x1) σ
      else none
  else none
noncomputable def zX8_octetOf (x1 : Int32) (σ : fv_S) : Option fv_O :=
  if fv_in x1 8 then
    if ¬ (fv_ga σ 8 x1) = (1 : Int32) then
      if fv_in x1 8 then
        if (fv_ga σ 8 x1) = (9 : Int32) then
          fv_ri 6 σ
        else
          if fv_in x1 8 then
            if ¬ (fv_ga σ 8 x1) = (14 : Int32) then
              fv_ri (-1) σ
            else
              fv_ri 6 σ
          else none
      else none
    else
      if fv_in x1 8 then
        fv_ri (fv_ga σ 9 x1) σ
      else none
  else none
noncomputable def zX8_is (x1 : Int32) (x2 : Int32) (σ : fv_S) : Option fv_O :=
  if fv_in x1 8 then
    if ¬ (fv_ga σ 8 x1) = x2 then
      fv_ri 0 σ
    else
      fv_ri 1 σ
  else none
noncomputable def zX8_frontOf (x1 : Int32) (σ : fv_S) : Option fv_O :=
  if fv_in x1 8 then
    if ¬ (fv_ga σ 9 x1) = (1 : Int32) then
      fv_ri 253 σ
    else
      fv_ri 221 σ
  else none
noncomputable def zX8_giveOctet (x1 : Int32) (x2 : Int32) (x3 : Int32) (σ : fv_S) : Option fv_O :=
  if fv_in x3 8 then
    if ¬ (fv_ga σ 8 x3) = (14 : Int32) then
      fv_bi (zX8_give 0 x1 x2 σ) (fun r3 σ2 =>
        if r3 = 0 ∨ r3 = 1 then fv_ri r3 σ2 else none) fv_no
    else
      fv_bi (zX8_frontOf x3 (fv_si σ 36 x3)) (fun r6 σ5 =>
        fv_bi (zX8_give r6 x1 x2 σ5) (fun r8 σ7 =>
          if r8 = 0 ∨ r8 = 1 then fv_ri r8 σ7 else none) fv_no) fv_no
  else none
noncomputable def zX8_alone (x1 : Int64) (σ : fv_S) : Option fv_O :=
  if ¬ (lg_cmp x1 (5461314 : Int64)) = 0 then
    if ¬ (lg_cmp x1 (4279876 : Int64)) = 0 then
      if ¬ (lg_cmp x1 (5787474 : Int64)) = 0 then
        if ¬ (lg_cmp x1 (20306 : Int64)) = 0 then
          if ¬ (lg_cmp x1 (17232 : Int64)) = 0 then
            fv_ri (-1) σ
          else
            fv_ri 56 σ
        else
          fv_ri 48 σ
      else
        fv_ri 40 σ
    else
      fv_ri 32 σ
  else
    fv_ri 16 σ
noncomputable def zX8_giveWith (x1 : Int32) (x2 : Int32) (x3 : Int32) (x4 : Int32) (x5 : Int32) (σ : fv_S) : Option fv_O :=
  fv_bi (zX8_give x1 x2 x3 (fv_si (fv_si σ 32 x4) 33 x5)) (fun r2 σ1 =>
    if r2 = 0 ∨ r2 = 1 then fv_ri r2 σ1 else none) fv_no
noncomputable def zX8_shiftOf (x1 : Int64) (σ : fv_S) : Option fv_O :=
  if ¬ (lg_cmp x1 (5393475 : Int64)) = 0 then
    if ¬ (lg_cmp x1 (5395011 : Int64)) = 0 then
      if ¬ (lg_cmp x1 (21068 : Int64)) = 0 then
        if ¬ (lg_cmp x1 (21074 : Int64)) = 0 then
          if ¬ (lg_cmp x1 (5459009 : Int64)) = 0 then
            if ¬ (lg_cmp x1 (5460545 : Int64)) = 0 then
              if ¬ (lg_cmp x1 (5460556 : Int64)) = 0 then
                fv_ri (-1) σ
              else
                fv_ri 56 σ
            else
              fv_ri 40 σ
          else
            fv_ri 32 σ
        else
          fv_ri 24 σ
      else
        fv_ri 16 σ
    else
      fv_ri 8 σ
  else
    fv_ri 0 σ
noncomputable def zX8_encodeOne_69 (s1 : Int32) (s2 : Int32) (s3 : Int32) (σ : fv_S) : Option fv_O :=
  fv_bi (zX8_give s1 s2 (s3 + ((16 : Int32) * (fv_ga σ 9 0))) σ) (fun r2 σ1 =>
    if r2 = 0 ∨ r2 = 1 then fv_ri r2 σ1 else none) fv_no
noncomputable def zX8_encodeOne_111 (s1 : Int32) (s2 : Int32) (s3 : Int32) (σ : fv_S) : Option fv_O :=
  fv_bi (zX8_give s1 s2 s3 σ) (fun r5 σ4 =>
    if r5 = 0 ∨ r5 = 1 then fv_ri r5 σ4 else none) fv_no
noncomputable def zX8_encodeOne_131 (x3 : Int32) (s1 : Int32) (s2 : Int32) (σ : fv_S) : Option fv_O :=
  fv_bi (zX8_giveOctet s1 (s2 + ((8 : Int32) * x3)) 0 σ) (fun r8 σ7 =>
    if r8 = 0 then
      fv_ri 0 σ7
    else
      fv_ri 1 σ7) fv_no
noncomputable def zX8_encodeOne_44 (x3 : Int32) (s0 : Int32) (σ : fv_S) : Option fv_O :=
  fv_bi (zX8_is 0 2 σ) (fun r10 σ9 =>
    if r10 = 0 then
      fv_bi (zX8_is 0 5 σ9) (fun r12 σ11 =>
        if r12 = 0 then
          if x3 < 0 then
            fv_ri 0 σ11
          else
            if s0 = 0 then
              zX8_encodeOne_131 x3 0 4 σ11
            else
              zX8_encodeOne_131 x3 0 5 σ11
        else
          fv_bi (zX8_frontOf 0 σ11) (fun r14 σ13 =>
            if s0 = 0 then
              zX8_encodeOne_111 r14 0 35 σ13
            else
              zX8_encodeOne_111 r14 0 43 σ13) fv_no) fv_no
    else
      if s0 = 0 then
        zX8_encodeOne_69 0 0 3 σ9
      else
        zX8_encodeOne_69 0 0 11 σ9) fv_no
noncomputable def zX8_encodeOne_31 (x1 : Int64) (x3 : Int32) (σ : fv_S) : Option fv_O :=
  if ¬ (lg_cmp x1 (4474179 : Int64)) = 0 then
    zX8_encodeOne_44 x3 0 σ
  else
    zX8_encodeOne_44 x3 1 σ
noncomputable def zX8_encodeOne_470 (s0 : Int32) (σ : fv_S) : Option fv_O :=
  fv_bi (zX8_is 0 2 σ) (fun r16 σ15 =>
    if r16 = 0 then
      fv_bi (zX8_is 0 3 σ15) (fun r18 σ17 =>
        if r18 = 0 then
          fv_bi (zX8_is 0 5 σ17) (fun r20 σ19 =>
            if r20 = 0 then
              fv_ri 0 σ19
            else
              fv_bi (zX8_frontOf 0 σ19) (fun r22 σ21 =>
                fv_bi (zX8_give r22 0 (s0 + (32 : Int32)) σ21) (fun r24 σ23 =>
                  if r24 = 0 then
                    fv_ri 0 σ23
                  else
                    fv_ri 1 σ23) fv_no) fv_no) fv_no
        else
          fv_bi (zX8_give 0 0 (s0 + (48 : Int32)) σ17) (fun r26 σ25 =>
            if r26 = 0 ∨ r26 = 1 then fv_ri r26 σ25 else none) fv_no) fv_no
    else
      if (3 : Int32) ≤ (fv_ga σ15 9 0) then
        fv_ri 0 σ15
      else
        fv_bi (zX8_give 0 0 (s0 + ((16 : Int32) * (fv_ga σ15 9 0))) σ15) (fun r29 σ28 =>
          if r29 = 0 then
            fv_ri 0 σ28
          else
            fv_ri 1 σ28) fv_no) fv_no
noncomputable def zX8_encodeOne_453 (x1 : Int64) (σ : fv_S) : Option fv_O :=
  if ¬ (lg_cmp x1 (5263184 : Int64)) = 0 then
    zX8_encodeOne_470 197 σ
  else
    zX8_encodeOne_470 193 σ
noncomputable def zX8_encodeOne_609 (s1 : Int32) (σ : fv_S) : Option fv_O :=
  if ¬ s1 = (2 : Int32) then
    fv_bi (zX8_give 0 237 70 (fv_si (fv_si σ 34 s1) 35 0)) (fun r31 σ30 =>
      if r31 = 0 ∨ r31 = 1 then fv_ri r31 σ30 else none) fv_no
  else
    fv_bi (zX8_give 0 0 199 (fv_si (fv_si σ 34 s1) 35 0)) (fun r34 σ33 =>
      if r34 = 0 ∨ r34 = 1 then fv_ri r34 σ33 else none) fv_no
noncomputable def zX8_encodeOne_588 (x1 : Int64) (x4 : Int32) (σ : fv_S) : Option fv_O :=
  if ¬ x4 = 0 then
    if ¬ (lg_cmp x1 (5395284 : Int64)) = 0 then
      zX8_encodeOne_609 3 σ
    else
      zX8_encodeOne_609 2 σ
  else
    fv_ri 0 σ
noncomputable def zX8_encodeOne (x1 : Int64) (σ : fv_S) : Option fv_O :=
  fv_bi (zX8_octetOf 0 σ) (fun r37 σ36 =>
    fv_bi (zX8_is 0 16 σ36) (fun r39 σ38 =>
      if (lg_cmp x1 (4804163 : Int64)) = 0 then
        zX8_encodeOne_31 x1 r37 σ38
      else
        if ¬ (lg_cmp x1 (4474179 : Int64)) = 0 then
          fv_bi (zX8_alone x1 σ38) (fun r41 σ40 =>
            if r41 < 0 then
              fv_bi (zX8_shiftOf x1 σ40) (fun r43 σ42 =>
                if r43 < 0 then
                  if ¬ (lg_cmp x1 (1145720410 : Int64)) = 0 then
                    if ¬ (lg_cmp x1 (19026 : Int64)) = 0 then
                      if ¬ (lg_cmp x1 (19024 : Int64)) = 0 then
                        if ¬ (lg_cmp x1 (1128352844 : Int64)) = 0 then
                          if (lg_cmp x1 (5263184 : Int64)) = 0 then
                            zX8_encodeOne_453 x1 σ42
                          else
                            if ¬ (lg_cmp x1 (1347769160 : Int64)) = 0 then
                              if (lg_cmp x1 (5395284 : Int64)) = 0 then
                                zX8_encodeOne_588 x1 r39 σ42
                              else
                                if ¬ (lg_cmp x1 (18765 : Int64)) = 0 then
                                  fv_ri 0 σ42
                                else
                                  zX8_encodeOne_588 x1 r39 σ42
                            else
                              zX8_encodeOne_453 x1 σ42
                        else
                          if r39 = 0 then
                            fv_ri 0 σ42
                          else
                            fv_bi (zX8_giveWith 0 0 205 2 0 σ42) (fun r45 σ44 =>
                              if r45 = 0 then
                                fv_ri 0 σ44
                              else
                                fv_ri 1 σ44) fv_no
                      else
                        fv_bi (zX8_is 0 9 σ42) (fun r47 σ46 =>
                          if r47 = 0 then
                            fv_bi (zX8_is 0 14 σ46) (fun r49 σ48 =>
                              if r49 = 0 then
                                if r39 = 0 then
                                  fv_ri 0 σ48
                                else
                                  fv_bi (zX8_giveWith 0 0 195 2 0 σ48) (fun r51 σ50 =>
                                    if r51 = 0 then
                                      fv_ri 0 σ50
                                    else
                                      fv_ri 1 σ50) fv_no
                              else
                                if (fv_ga σ48 12 0) = 0 then
                                  fv_ri 0 σ48
                                else
                                  fv_bi (zX8_frontOf 0 σ48) (fun r53 σ52 =>
                                    fv_bi (zX8_give r53 0 233 σ52) (fun r55 σ54 =>
                                      if r55 = 0 then
                                        fv_ri 0 σ54
                                      else
                                        fv_ri 1 σ54) fv_no) fv_no) fv_no
                          else
                            fv_bi (zX8_give 0 0 233 σ46) (fun r57 σ56 =>
                              if r57 = 0 ∨ r57 = 1 then fv_ri r57 σ56 else none) fv_no) fv_no
                    else
                      if r39 = 0 then
                        fv_ri 0 σ42
                      else
                        fv_bi (zX8_giveWith 0 0 24 3 0 σ42) (fun r60 σ59 =>
                          if r60 = 0 then
                            fv_ri 0 σ59
                          else
                            fv_ri 1 σ59) fv_no
                  else
                    if r39 = 0 then
                      fv_ri 0 σ42
                    else
                      fv_bi (zX8_giveWith 0 0 16 3 0 σ42) (fun r62 σ61 =>
                        if r62 = 0 then
                          fv_ri 0 σ61
                        else
                          fv_ri 1 σ61) fv_no
                else
                  if r37 < 0 then
                    fv_ri 0 σ42
                  else
                    fv_bi (zX8_shiftOf x1 σ42) (fun r64 σ63 =>
                      fv_bi (zX8_giveOctet 203 (r64 + r37) 0 σ63) (fun r66 σ65 =>
                        if r66 = 0 then
                          fv_ri 0 σ65
                        else
                          fv_ri 1 σ65) fv_no) fv_no) fv_no
            else
              if r39 = 0 then
                if r37 < 0 then
                  fv_ri 0 σ40
                else
                  fv_bi (zX8_alone x1 σ40) (fun r68 σ67 =>
                    fv_bi (zX8_giveOctet 0 (((128 : Int32) + r68) + r37) 0 σ67) (fun r70 σ69 =>
                      if r70 = 0 then
                        fv_ri 0 σ69
                      else
                        fv_ri 1 σ69) fv_no) fv_no
              else
                fv_bi (zX8_alone x1 σ40) (fun r72 σ71 =>
                  fv_bi (zX8_giveWith 0 0 ((198 : Int32) + r72) 1 0 σ71) (fun r74 σ73 =>
                    if r74 = 0 ∨ r74 = 1 then fv_ri r74 σ73 else none) fv_no) fv_no) fv_no
        else
          zX8_encodeOne_31 x1 r37 σ38) fv_no) fv_no
noncomputable def zX8_isHL (x1 : Int32) (σ : fv_S) : Option fv_O :=
  if fv_in x1 8 then
    if ¬ (fv_ga σ 8 x1) = (2 : Int32) then
      fv_ri 0 σ
    else
      if fv_in x1 8 then
        if ¬ (fv_ga σ 9 x1) = (2 : Int32) then
          fv_ri 0 σ
        else
          fv_ri 1 σ
      else none
  else none
noncomputable def zX8_isA (x1 : Int32) (σ : fv_S) : Option fv_O :=
  if fv_in x1 8 then
    if ¬ (fv_ga σ 8 x1) = (1 : Int32) then
      fv_ri 0 σ
    else
      if fv_in x1 8 then
        if ¬ (fv_ga σ 9 x1) = (7 : Int32) then
          fv_ri 0 σ
        else
          fv_ri 1 σ
      else none
  else none
noncomputable def zX8_encodeLoad_681 (s1 : Int32) (s2 : Int32) (s3 : Int32) (σ : fv_S) : Option fv_O :=
  fv_bi (zX8_giveOctet s1 s2 s3 σ) (fun r2 σ1 =>
    if r2 = 0 ∨ r2 = 1 then fv_ri r2 σ1 else none) fv_no
noncomputable def zX8_encodeLoad_659 (x1 : Int32) (x2 : Int32) (σ : fv_S) : Option fv_O :=
  if ¬ x1 = (6 : Int32) then
    zX8_encodeLoad_681 0 (((64 : Int32) + ((8 : Int32) * x1)) + x2) 1 σ
  else
    zX8_encodeLoad_681 0 (((64 : Int32) + ((8 : Int32) * x1)) + x2) 0 σ
noncomputable def zX8_encodeLoad_601 (x1 : Int32) (x2 : Int32) (σ : fv_S) : Option fv_O :=
  if (0 : Int32) ≤ x1 then
    fv_bi (zX8_is 1 16 σ) (fun r5 σ4 =>
      if r5 = 0 then
        if x2 < 0 then
          fv_ri 0 σ4
        else
          if ¬ x1 = (6 : Int32) then
            zX8_encodeLoad_659 x1 x2 σ4
          else
            if ¬ x2 = (6 : Int32) then
              zX8_encodeLoad_659 x1 x2 σ4
            else
              fv_ri 0 σ4
      else
        fv_bi (zX8_giveOctet 0 ((6 : Int32) + ((8 : Int32) * x1)) 0 (fv_si (fv_si σ4 32 1) 33 1)) (fun r7 σ6 =>
          if r7 = 0 ∨ r7 = 1 then fv_ri r7 σ6 else none) fv_no) fv_no
  else
    fv_ri 0 σ
noncomputable def zX8_encodeLoad (σ : fv_S) : Option fv_O :=
  fv_bi (zX8_octetOf 0 σ) (fun r10 σ9 =>
    fv_bi (zX8_octetOf 1 σ9) (fun r12 σ11 =>
      fv_bi (zX8_is 0 2 σ11) (fun r14 σ13 =>
        if r14 = 0 then
          fv_bi (zX8_is 0 5 σ13) (fun r16 σ15 =>
            if r16 = 0 then
              fv_bi (zX8_is 0 15 σ15) (fun r18 σ17 =>
                if r18 = 0 then
                  fv_bi (zX8_is 0 10 σ17) (fun r20 σ19 =>
                    if r20 = 0 then
                      fv_bi (zX8_is 0 11 σ19) (fun r22 σ21 =>
                        if r22 = 0 then
                          fv_bi (zX8_is 0 6 σ21) (fun r24 σ23 =>
                            if r24 = 0 then
                              fv_bi (zX8_is 0 7 σ23) (fun r26 σ25 =>
                                if r26 = 0 then
                                  fv_bi (zX8_isA 0 σ25) (fun r28 σ27 =>
                                    if r28 = 0 then
                                      zX8_encodeLoad_601 r10 r12 σ27
                                    else
                                      fv_bi (zX8_is 1 15 σ27) (fun r30 σ29 =>
                                        if r30 = 0 then
                                          fv_bi (zX8_is 1 10 σ29) (fun r32 σ31 =>
                                            if r32 = 0 then
                                              fv_bi (zX8_is 1 11 σ31) (fun r34 σ33 =>
                                                if r34 = 0 then
                                                  fv_bi (zX8_is 1 6 σ33) (fun r36 σ35 =>
                                                    if r36 = 0 then
                                                      fv_bi (zX8_is 1 7 σ35) (fun r38 σ37 =>
                                                        if r38 = 0 then
                                                          zX8_encodeLoad_601 r10 r12 σ37
                                                        else
                                                          fv_bi (zX8_give 0 237 95 σ37) (fun r40 σ39 =>
                                                            if r40 = 0 ∨ r40 = 1 then fv_ri r40 σ39 else none) fv_no) fv_no
                                                    else
                                                      fv_bi (zX8_give 0 237 87 σ35) (fun r43 σ42 =>
                                                        if r43 = 0 ∨ r43 = 1 then fv_ri r43 σ42 else none) fv_no) fv_no
                                                else
                                                  fv_bi (zX8_give 0 0 26 σ33) (fun r46 σ45 =>
                                                    if r46 = 0 ∨ r46 = 1 then fv_ri r46 σ45 else none) fv_no) fv_no
                                            else
                                              fv_bi (zX8_give 0 0 10 σ31) (fun r49 σ48 =>
                                                if r49 = 0 ∨ r49 = 1 then fv_ri r49 σ48 else none) fv_no) fv_no
                                        else
                                          fv_bi (zX8_giveWith 0 0 58 2 1 σ29) (fun r52 σ51 =>
                                            if r52 = 0 ∨ r52 = 1 then fv_ri r52 σ51 else none) fv_no) fv_no) fv_no
                                else
                                  fv_bi (zX8_isA 1 σ25) (fun r55 σ54 =>
                                    if r55 = 0 then
                                      fv_ri 0 σ54
                                    else
                                      fv_bi (zX8_give 0 237 79 σ54) (fun r57 σ56 =>
                                        if r57 = 0 then
                                          fv_ri 0 σ56
                                        else
                                          fv_ri 1 σ56) fv_no) fv_no) fv_no
                            else
                              fv_bi (zX8_isA 1 σ23) (fun r59 σ58 =>
                                if r59 = 0 then
                                  fv_ri 0 σ58
                                else
                                  fv_bi (zX8_give 0 237 71 σ58) (fun r61 σ60 =>
                                    if r61 = 0 then
                                      fv_ri 0 σ60
                                    else
                                      fv_ri 1 σ60) fv_no) fv_no) fv_no
                        else
                          fv_bi (zX8_isA 1 σ21) (fun r63 σ62 =>
                            if r63 = 0 then
                              fv_ri 0 σ62
                            else
                              fv_bi (zX8_give 0 0 18 σ62) (fun r65 σ64 =>
                                if r65 = 0 then
                                  fv_ri 0 σ64
                                else
                                  fv_ri 1 σ64) fv_no) fv_no) fv_no
                    else
                      fv_bi (zX8_isA 1 σ19) (fun r67 σ66 =>
                        if r67 = 0 then
                          fv_ri 0 σ66
                        else
                          fv_bi (zX8_give 0 0 2 σ66) (fun r69 σ68 =>
                            if r69 = 0 then
                              fv_ri 0 σ68
                            else
                              fv_ri 1 σ68) fv_no) fv_no) fv_no
                else
                  fv_bi (zX8_isA 1 σ17) (fun r71 σ70 =>
                    if r71 = 0 then
                      fv_bi (zX8_is 1 5 σ70) (fun r73 σ72 =>
                        if r73 = 0 then
                          fv_bi (zX8_is 1 2 σ72) (fun r75 σ74 =>
                            if ¬ r75 = 0 then
                              if ¬ (fv_ga σ74 9 1) = (2 : Int32) then
                                fv_bi (zX8_giveWith 0 237 ((67 : Int32) + ((16 : Int32) * (fv_ga σ74 9 1))) 2 0 σ74) (fun r77 σ76 =>
                                  if r77 = 0 ∨ r77 = 1 then fv_ri r77 σ76 else none) fv_no
                              else
                                fv_bi (zX8_giveWith 0 0 34 2 0 σ74) (fun r80 σ79 =>
                                  if r80 = 0 ∨ r80 = 1 then fv_ri r80 σ79 else none) fv_no
                            else
                              fv_ri 0 σ74) fv_no
                        else
                          fv_bi (zX8_frontOf 1 σ72) (fun r83 σ82 =>
                            fv_bi (zX8_giveWith r83 0 34 2 0 σ82) (fun r85 σ84 =>
                              if r85 = 0 ∨ r85 = 1 then fv_ri r85 σ84 else none) fv_no) fv_no) fv_no
                    else
                      fv_bi (zX8_giveWith 0 0 50 2 0 σ70) (fun r88 σ87 =>
                        if r88 = 0 ∨ r88 = 1 then fv_ri r88 σ87 else none) fv_no) fv_no) fv_no
            else
              fv_bi (zX8_is 1 16 σ15) (fun r91 σ90 =>
                if r91 = 0 then
                  fv_bi (zX8_is 1 15 σ90) (fun r93 σ92 =>
                    if r93 = 0 then
                      fv_ri 0 σ92
                    else
                      fv_bi (zX8_frontOf 0 σ92) (fun r95 σ94 =>
                        fv_bi (zX8_giveWith r95 0 42 2 1 σ94) (fun r97 σ96 =>
                          if r97 = 0 then
                            fv_ri 0 σ96
                          else
                            fv_ri 1 σ96) fv_no) fv_no) fv_no
                else
                  fv_bi (zX8_frontOf 0 σ90) (fun r99 σ98 =>
                    fv_bi (zX8_giveWith r99 0 33 2 1 σ98) (fun r101 σ100 =>
                      if r101 = 0 ∨ r101 = 1 then fv_ri r101 σ100 else none) fv_no) fv_no) fv_no) fv_no
        else
          fv_bi (zX8_is 1 16 σ13) (fun r104 σ103 =>
            if r104 = 0 then
              fv_bi (zX8_is 1 15 σ103) (fun r106 σ105 =>
                if r106 = 0 then
                  if (fv_ga σ105 9 0) = (3 : Int32) then
                    fv_bi (zX8_isHL 1 σ105) (fun r108 σ107 =>
                      if r108 = 0 then
                        fv_bi (zX8_is 1 5 σ107) (fun r110 σ109 =>
                          if r110 = 0 then
                            fv_ri 0 σ109
                          else
                            fv_bi (zX8_frontOf 1 σ109) (fun r112 σ111 =>
                              fv_bi (zX8_give r112 0 249 σ111) (fun r114 σ113 =>
                                if r114 = 0 then
                                  fv_ri 0 σ113
                                else
                                  fv_ri 1 σ113) fv_no) fv_no) fv_no
                      else
                        fv_bi (zX8_give 0 0 249 σ107) (fun r116 σ115 =>
                          if r116 = 0 ∨ r116 = 1 then fv_ri r116 σ115 else none) fv_no) fv_no
                  else
                    fv_ri 0 σ105
                else
                  if ¬ (fv_ga σ105 9 0) = (2 : Int32) then
                    fv_bi (zX8_giveWith 0 237 ((75 : Int32) + ((16 : Int32) * (fv_ga σ105 9 0))) 2 1 σ105) (fun r119 σ118 =>
                      if r119 = 0 ∨ r119 = 1 then fv_ri r119 σ118 else none) fv_no
                  else
                    fv_bi (zX8_giveWith 0 0 42 2 1 σ105) (fun r122 σ121 =>
                      if r122 = 0 ∨ r122 = 1 then fv_ri r122 σ121 else none) fv_no) fv_no
            else
              fv_bi (zX8_giveWith 0 0 ((1 : Int32) + ((16 : Int32) * (fv_ga σ103 9 0))) 2 1 σ103) (fun r125 σ124 =>
                if r125 = 0 ∨ r125 = 1 then fv_ri r125 σ124 else none) fv_no) fv_no) fv_no) fv_no) fv_no
noncomputable def zX8_encodeSum_154 (s1 : Int32) (s2 : Int32) (s3 : Int32) (σ : fv_S) : Option fv_O :=
  fv_bi (zX8_give s1 s2 (s3 + ((16 : Int32) * (fv_ga σ 9 1))) σ) (fun r2 σ1 =>
    if r2 = 0 ∨ r2 = 1 then fv_ri r2 σ1 else none) fv_no
noncomputable def zX8_encodeSum_168 (x3 : Int32) (σ : fv_S) : Option fv_O :=
  fv_bi (zX8_is 0 5 σ) (fun r5 σ4 =>
    if r5 = 0 then
      fv_ri 0 σ4
    else
      if x3 ≤ 0 then
        fv_bi (zX8_is 1 5 σ4) (fun r7 σ6 =>
          if r7 = 0 then
            fv_bi (zX8_is 1 2 σ6) (fun r9 σ8 =>
              if r9 = 0 then
                fv_ri 0 σ8
              else
                if (fv_ga σ8 9 1) = (2 : Int32) then
                  fv_ri 0 σ8
                else
                  fv_bi (zX8_frontOf 0 σ8) (fun r11 σ10 =>
                    fv_bi (zX8_give r11 0 ((9 : Int32) + ((16 : Int32) * (fv_ga σ10 9 1))) σ10) (fun r13 σ12 =>
                      if r13 = 0 then
                        fv_ri 0 σ12
                      else
                        fv_ri 1 σ12) fv_no) fv_no) fv_no
          else
            if ¬ (fv_ga σ6 9 0) = (fv_ga σ6 9 1) then
              fv_ri 0 σ6
            else
              fv_bi (zX8_frontOf 0 σ6) (fun r15 σ14 =>
                fv_bi (zX8_give r15 0 41 σ14) (fun r17 σ16 =>
                  if r17 = 0 then
                    fv_ri 0 σ16
                  else
                    fv_ri 1 σ16) fv_no) fv_no) fv_no
      else
        fv_ri 0 σ4) fv_no
noncomputable def zX8_encodeSum_27 (s0 : Int32) (σ : fv_S) : Option fv_O :=
  fv_bi (zX8_isA 0 σ) (fun r19 σ18 =>
    if r19 = 0 then
      fv_bi (zX8_isHL 0 σ18) (fun r21 σ20 =>
        if r21 = 0 then
          zX8_encodeSum_168 s0 σ20
        else
          fv_bi (zX8_is 1 2 σ20) (fun r23 σ22 =>
            if r23 = 0 then
              zX8_encodeSum_168 s0 σ22
            else
              if ¬ s0 = 0 then
                if ¬ s0 = (8 : Int32) then
                  zX8_encodeSum_154 0 237 66 σ22
                else
                  zX8_encodeSum_154 0 237 74 σ22
              else
                fv_bi (zX8_give 0 0 ((9 : Int32) + ((16 : Int32) * (fv_ga σ22 9 1))) σ22) (fun r25 σ24 =>
                  if r25 = 0 ∨ r25 = 1 then fv_ri r25 σ24 else none) fv_no) fv_no) fv_no
    else
      fv_bi (zX8_is 1 16 σ18) (fun r28 σ27 =>
        if r28 = 0 then
          fv_bi (zX8_octetOf 1 σ27) (fun r30 σ29 =>
            if r30 < 0 then
              fv_ri 0 σ29
            else
              fv_bi (zX8_octetOf 1 σ29) (fun r32 σ31 =>
                fv_bi (zX8_giveOctet 0 (((128 : Int32) + s0) + r32) 1 σ31) (fun r34 σ33 =>
                  if r34 = 0 then
                    fv_ri 0 σ33
                  else
                    fv_ri 1 σ33) fv_no) fv_no) fv_no
        else
          fv_bi (zX8_giveWith 0 0 ((198 : Int32) + s0) 1 1 σ27) (fun r36 σ35 =>
            if r36 = 0 ∨ r36 = 1 then fv_ri r36 σ35 else none) fv_no) fv_no) fv_no
noncomputable def zX8_encodeSum (x1 : Int64) (σ : fv_S) : Option fv_O :=
  if ¬ (lg_cmp x1 (4277316 : Int64)) = 0 then
    if ¬ (lg_cmp x1 (4277315 : Int64)) = 0 then
      zX8_encodeSum_27 24 σ
    else
      zX8_encodeSum_27 8 σ
  else
    zX8_encodeSum_27 0 σ
noncomputable def zX8_encodeTwo_85 (σ : fv_S) : Option fv_O :=
  fv_bi (zX8_is 0 12 σ) (fun r2 σ1 =>
    if ¬ r2 = 0 then
      fv_bi (zX8_isHL 1 σ1) (fun r4 σ3 =>
        if r4 = 0 then
          fv_bi (zX8_is 1 5 σ3) (fun r6 σ5 =>
            if r6 = 0 then
              fv_ri 0 σ5
            else
              fv_bi (zX8_frontOf 1 σ5) (fun r8 σ7 =>
                fv_bi (zX8_give r8 0 227 σ7) (fun r10 σ9 =>
                  if r10 = 0 then
                    fv_ri 0 σ9
                  else
                    fv_ri 1 σ9) fv_no) fv_no) fv_no
        else
          fv_bi (zX8_give 0 0 227 σ3) (fun r12 σ11 =>
            if r12 = 0 ∨ r12 = 1 then fv_ri r12 σ11 else none) fv_no) fv_no
    else
      fv_ri 0 σ1) fv_no
noncomputable def zX8_encodeTwo_48 (σ : fv_S) : Option fv_O :=
  fv_bi (zX8_is 0 2 σ) (fun r15 σ14 =>
    if r15 = 0 then
      zX8_encodeTwo_85 σ14
    else
      if ¬ (fv_ga σ14 9 0) = (1 : Int32) then
        zX8_encodeTwo_85 σ14
      else
        fv_bi (zX8_isHL 1 σ14) (fun r17 σ16 =>
          if r17 = 0 then
            zX8_encodeTwo_85 σ16
          else
            fv_bi (zX8_give 0 0 235 σ16) (fun r19 σ18 =>
              if r19 = 0 ∨ r19 = 1 then fv_ri r19 σ18 else none) fv_no) fv_no) fv_no
noncomputable def zX8_encodeTwo_172 (x1 : Int64) (σ : fv_S) : Option fv_O :=
  fv_bi (zX8_encodeSum x1 σ) (fun r22 σ21 =>
    if r22 = 0 ∨ r22 = 1 then fv_ri r22 σ21 else none) fv_no
noncomputable def zX8_encodeTwo_581 (s0 : Int32) (σ : fv_S) : Option fv_O :=
  if s0 = 0 then
    fv_ri 0 σ
  else
    fv_bi (zX8_is 0 16 σ) (fun r25 σ24 =>
      if r25 = 0 then
        fv_ri 0 σ24
      else
        fv_bi (zX8_octetOf 1 σ24) (fun r27 σ26 =>
          if (0 : Int32) ≤ r27 then
            fv_bi (zX8_octetOf 1 (fv_si (fv_si σ26 34 1) 35 0)) (fun r29 σ28 =>
              fv_bi (zX8_giveOctet 203 (s0 + r29) 1 σ28) (fun r31 σ30 =>
                if r31 = 0 ∨ r31 = 1 then fv_ri r31 σ30 else none) fv_no) fv_no
          else
            fv_ri 0 σ26) fv_no) fv_no
noncomputable def zX8_encodeTwo (x1 : Int64) (σ : fv_S) : Option fv_O :=
  if ¬ (lg_cmp x1 (19524 : Int64)) = 0 then
    if ¬ (lg_cmp x1 (17752 : Int64)) = 0 then
      if (lg_cmp x1 (4277316 : Int64)) = 0 then
        zX8_encodeTwo_172 x1 σ
      else
        if (lg_cmp x1 (4277315 : Int64)) = 0 then
          zX8_encodeTwo_172 x1 σ
        else
          if ¬ (lg_cmp x1 (5456451 : Int64)) = 0 then
            if ¬ (lg_cmp x1 (19026 : Int64)) = 0 then
              if ¬ (lg_cmp x1 (19024 : Int64)) = 0 then
                if ¬ (lg_cmp x1 (1128352844 : Int64)) = 0 then
                  if ¬ (lg_cmp x1 (5199188 : Int64)) = 0 then
                    if ¬ (lg_cmp x1 (18766 : Int64)) = 0 then
                      if ¬ (lg_cmp x1 (4344148 : Int64)) = 0 then
                        if ¬ (lg_cmp x1 (5391699 : Int64)) = 0 then
                          if ¬ (lg_cmp x1 (5457236 : Int64)) = 0 then
                            zX8_encodeTwo_581 0 σ
                          else
                            zX8_encodeTwo_581 192 σ
                        else
                          zX8_encodeTwo_581 128 σ
                      else
                        zX8_encodeTwo_581 64 σ
                    else
                      fv_bi (zX8_is 1 15 σ) (fun r34 σ33 =>
                        if r34 = 0 then
                          fv_bi (zX8_is 1 13 σ33) (fun r36 σ35 =>
                            if r36 = 0 then
                              fv_ri 0 σ35
                            else
                              fv_bi (zX8_is 0 1 σ35) (fun r38 σ37 =>
                                if r38 = 0 then
                                  fv_ri 0 σ37
                                else
                                  fv_bi (zX8_give 0 237 ((64 : Int32) + ((8 : Int32) * (fv_ga σ37 9 0))) σ37) (fun r40 σ39 =>
                                    if r40 = 0 then
                                      fv_ri 0 σ39
                                    else
                                      fv_ri 1 σ39) fv_no) fv_no) fv_no
                        else
                          fv_bi (zX8_isA 0 σ33) (fun r42 σ41 =>
                            if r42 = 0 then
                              fv_ri 0 σ41
                            else
                              fv_bi (zX8_giveWith 0 0 219 1 1 σ41) (fun r44 σ43 =>
                                if r44 = 0 then
                                  fv_ri 0 σ43
                                else
                                  fv_ri 1 σ43) fv_no) fv_no) fv_no
                  else
                    fv_bi (zX8_is 0 15 σ) (fun r46 σ45 =>
                      if r46 = 0 then
                        fv_bi (zX8_is 0 13 σ45) (fun r48 σ47 =>
                          if r48 = 0 then
                            fv_ri 0 σ47
                          else
                            fv_bi (zX8_is 1 1 σ47) (fun r50 σ49 =>
                              if r50 = 0 then
                                fv_ri 0 σ49
                              else
                                fv_bi (zX8_give 0 237 ((65 : Int32) + ((8 : Int32) * (fv_ga σ49 9 1))) σ49) (fun r52 σ51 =>
                                  if r52 = 0 then
                                    fv_ri 0 σ51
                                  else
                                    fv_ri 1 σ51) fv_no) fv_no) fv_no
                      else
                        fv_bi (zX8_isA 1 σ45) (fun r54 σ53 =>
                          if r54 = 0 then
                            fv_ri 0 σ53
                          else
                            fv_bi (zX8_giveWith 0 0 211 1 0 σ53) (fun r56 σ55 =>
                              if r56 = 0 then
                                fv_ri 0 σ55
                              else
                                fv_ri 1 σ55) fv_no) fv_no) fv_no
                else
                  fv_bi (zX8_conditionOf 0 σ) (fun r58 σ57 =>
                    if r58 < 0 then
                      fv_ri 0 σ57
                    else
                      fv_bi (zX8_is 1 16 σ57) (fun r60 σ59 =>
                        if r60 = 0 then
                          fv_ri 0 σ59
                        else
                          fv_bi (zX8_conditionOf 0 σ59) (fun r62 σ61 =>
                            fv_bi (zX8_giveWith 0 0 ((196 : Int32) + ((8 : Int32) * r62)) 2 1 σ61) (fun r64 σ63 =>
                              if r64 = 0 then
                                fv_ri 0 σ63
                              else
                                fv_ri 1 σ63) fv_no) fv_no) fv_no) fv_no
              else
                fv_bi (zX8_conditionOf 0 σ) (fun r66 σ65 =>
                  if r66 < 0 then
                    fv_ri 0 σ65
                  else
                    fv_bi (zX8_is 1 16 σ65) (fun r68 σ67 =>
                      if r68 = 0 then
                        fv_ri 0 σ67
                      else
                        fv_bi (zX8_conditionOf 0 σ67) (fun r70 σ69 =>
                          fv_bi (zX8_giveWith 0 0 ((194 : Int32) + ((8 : Int32) * r70)) 2 1 σ69) (fun r72 σ71 =>
                            if r72 = 0 then
                              fv_ri 0 σ71
                            else
                              fv_ri 1 σ71) fv_no) fv_no) fv_no) fv_no
            else
              fv_bi (zX8_conditionOf 0 σ) (fun r74 σ73 =>
                if r74 < 0 then
                  fv_ri 0 σ73
                else
                  fv_bi (zX8_conditionOf 0 σ73) (fun r76 σ75 =>
                    if (4 : Int32) ≤ r76 then
                      fv_ri 0 σ75
                    else
                      fv_bi (zX8_is 1 16 σ75) (fun r78 σ77 =>
                        if r78 = 0 then
                          fv_ri 0 σ77
                        else
                          fv_bi (zX8_conditionOf 0 σ77) (fun r80 σ79 =>
                            fv_bi (zX8_giveWith 0 0 ((32 : Int32) + ((8 : Int32) * r80)) 3 1 σ79) (fun r82 σ81 =>
                              if r82 = 0 then
                                fv_ri 0 σ81
                              else
                                fv_ri 1 σ81) fv_no) fv_no) fv_no) fv_no) fv_no
          else
            zX8_encodeTwo_172 x1 σ
    else
      fv_bi (zX8_is 0 3 σ) (fun r84 σ83 =>
        if r84 = 0 then
          zX8_encodeTwo_48 σ83
        else
          fv_bi (zX8_is 1 4 σ83) (fun r86 σ85 =>
            if r86 = 0 then
              zX8_encodeTwo_48 σ85
            else
              fv_bi (zX8_give 0 0 8 σ85) (fun r88 σ87 =>
                if r88 = 0 ∨ r88 = 1 then fv_ri r88 σ87 else none) fv_no) fv_no) fv_no
  else
    fv_bi (zX8_encodeLoad σ) (fun r91 σ90 =>
      if r91 = 0 ∨ r91 = 1 then fv_ri r91 σ90 else none) fv_no
noncomputable def zX8_encode_53 (x4 : Int32) (s1 : Int32) (s2 : Int32) (σ : fv_S) : Option fv_O :=
  fv_bi (zX8_give s1 s2 (x4 &&& (255 : Int32)) σ) (fun r2 σ1 =>
    if r2 = 0 then
      fv_ri 0 σ1
    else
      fv_ri 1 σ1) fv_no
noncomputable def zX8_encode (x1 : Int64) (σ : fv_S) : Option fv_O :=
  fv_bi (zX8_plain x1 (fv_si (fv_si (fv_si σ 32 0) 34 0) 36 (-1))) (fun r4 σ3 =>
    if r4 < 0 then
      if ¬ (lg_cmp x1 (5391700 : Int64)) = 0 then
        if ¬ (fv_gi σ 28) = (1 : Int32) then
          if ¬ (fv_gi σ 28) = (2 : Int32) then
            fv_ri 0 σ3
          else
            fv_bi (zX8_encodeTwo x1 σ3) (fun r6 σ5 =>
              if r6 = 0 then
                fv_ri 0 σ5
              else
                fv_ri 1 σ5) fv_no
        else
          fv_bi (zX8_encodeOne x1 σ3) (fun r8 σ7 =>
            if r8 = 0 ∨ r8 = 1 then fv_ri r8 σ7 else none) fv_no
      else
        if ¬ (fv_gi σ 28) = 0 then
          if ¬ (fv_gi σ 28) = (1 : Int32) then
            fv_ri 0 σ3
          else
            fv_bi (zX8_conditionOf 0 σ3) (fun r11 σ10 =>
              if r11 < 0 then
                fv_ri 0 σ10
              else
                fv_bi (zX8_conditionOf 0 σ10) (fun r13 σ12 =>
                  fv_bi (zX8_give 0 0 ((192 : Int32) + ((8 : Int32) * r13)) σ12) (fun r15 σ14 =>
                    if r15 = 0 then
                      fv_ri 0 σ14
                    else
                      fv_ri 1 σ14) fv_no) fv_no) fv_no
        else
          fv_bi (zX8_give 0 0 201 σ3) (fun r17 σ16 =>
            if r17 = 0 ∨ r17 = 1 then fv_ri r17 σ16 else none) fv_no
    else
      if ¬ (fv_gi σ 28) = 0 then
        fv_ri 0 σ3
      else
        if r4 ≤ (255 : Int32) then
          zX8_encode_53 r4 0 0 σ3
        else
          zX8_encode_53 r4 0 237 σ3) fv_no
noncomputable def zX8_lengthOf_39 (s0 : Int32) (s1 : Int32) (σ : fv_S) : Option fv_O :=
  if ¬ (fv_gi σ 32) = (2 : Int32) then
    if (fv_gi σ 32) ≤ 0 then
      fv_ri ((s0 + s1) + (0 : Int32)) σ
    else
      fv_ri ((s0 + s1) + (1 : Int32)) σ
  else
    fv_ri ((s0 + s1) + (2 : Int32)) σ
noncomputable def zX8_lengthOf_24 (s0 : Int32) (s1 : Int32) (σ : fv_S) : Option fv_O :=
  if (fv_gi σ 36) < 0 then
    zX8_lengthOf_39 ((s0 + s1) + (1 : Int32)) 0 σ
  else
    zX8_lengthOf_39 ((s0 + s1) + (1 : Int32)) 1 σ
noncomputable def zX8_lengthOf_12 (s0 : Int32) (σ : fv_S) : Option fv_O :=
  if (fv_gi σ 30) ≤ 0 then
    zX8_lengthOf_24 s0 0 σ
  else
    zX8_lengthOf_24 s0 1 σ
noncomputable def zX8_lengthOf (σ : fv_S) : Option fv_O :=
  if (fv_gi σ 29) ≤ 0 then
    zX8_lengthOf_12 0 σ
  else
    zX8_lengthOf_12 1 σ
noncomputable def zX8_expValue (N : Nat) (x1 : Int32) (σ : fv_S) : Option fv_O :=
  if fv_in x1 8 then
    fv_bv (zX8_goTo N (fv_ga σ 10 x1) σ) (fun σ2 =>
      fv_bi (zX8_expression N 1 σ2) (fun r4 σ3 =>
        fv_ri (fv_gi σ3 22) σ3) fv_no) fv_no
  else none
noncomputable def zX8_work_133 (N : Nat) (x4 : Int32) (σ : fv_S) : Option fv_O :=
  fv_bi (zX8_wrong 5 x4 σ) (fun r2 σ1 =>
    if r2 = 0 then
      fv_ri 0 σ1
    else
      fv_ri 1 σ1) fv_no
noncomputable def zX8_work_112 (N : Nat) (x4 : Int32) (s1 : Int32) (σ : fv_S) : Option fv_O :=
  if s1 < ((-128) : Int32) then
    zX8_work_133 N x4 (fv_si σ 56 s1)
  else
    if s1 ≤ (127 : Int32) then
      fv_ri 1 (fv_si σ 56 s1)
    else
      zX8_work_133 N x4 (fv_si σ 56 s1)
noncomputable def zX8_work_242 (N : Nat) (x4 : Int32) (s0 : Int32) (σ : fv_S) : Option fv_O :=
  if ¬ s0 = 0 then
    fv_ri 1 σ
  else
    fv_bi (zX8_wrong 5 x4 σ) (fun r4 σ3 =>
      if r4 = 0 then
        fv_ri 0 σ3
      else
        fv_ri 1 σ3) fv_no
noncomputable def zX8_work_191 (N : Nat) (x4 : Int32) (σ : fv_S) : Option fv_O :=
  zX8_work_242 N x4 0 σ
noncomputable def zX8_work_224 (N : Nat) (x4 : Int32) (σ : fv_S) : Option fv_O :=
  zX8_work_242 N x4 0 σ
noncomputable def zX8_work_241 (N : Nat) (x4 : Int32) (σ : fv_S) : Option fv_O :=
  zX8_work_242 N x4 0 σ
noncomputable def zX8_work_291 (N : Nat) (x4 : Int32) (σ : fv_S) : Option fv_O :=
  fv_bi (zX8_wrong 5 x4 σ) (fun r6 σ5 =>
    if r6 = 0 then
      fv_ri 0 σ5
    else
      fv_ri 1 σ5) fv_no
noncomputable def zX8_work_328 (N : Nat) (x4 : Int32) (σ : fv_S) : Option fv_O :=
  fv_bi (zX8_wrong 5 x4 σ) (fun r8 σ7 =>
    if r8 = 0 then
      fv_ri 0 σ7
    else
      fv_ri 1 σ7) fv_no
noncomputable def zX8_work_380 (N : Nat) (x4 : Int32) (σ : fv_S) : Option fv_O :=
  fv_bi (zX8_wrong 5 x4 σ) (fun r10 σ9 =>
    if r10 = 0 then
      fv_ri 0 σ9
    else
      fv_ri 1 σ9) fv_no
noncomputable def zX8_work_265 (N : Nat) (x2 : Int32) (x3 : Int32) (x4 : Int32) (σ : fv_S) : Option fv_O :=
  if ¬ (fv_gi σ 32) = (1 : Int32) then
    if ¬ (fv_gi σ 32) = (2 : Int32) then
      if (((x3 - ((fv_gi σ 20) + x2)) <<< (16 : Int32)) >>> (16 : Int32)) < ((-128) : Int32) then
        zX8_work_380 N x4 (fv_si (fv_si σ 57 x3) 57 (((x3 - ((fv_gi σ 20) + x2)) <<< (16 : Int32)) >>> (16 : Int32)))
      else
        if (((x3 - ((fv_gi σ 20) + x2)) <<< (16 : Int32)) >>> (16 : Int32)) ≤ (127 : Int32) then
          fv_ri 1 (fv_si (fv_si σ 57 x3) 57 (((x3 - ((fv_gi σ 20) + x2)) <<< (16 : Int32)) >>> (16 : Int32)))
        else
          zX8_work_380 N x4 (fv_si (fv_si σ 57 x3) 57 (((x3 - ((fv_gi σ 20) + x2)) <<< (16 : Int32)) >>> (16 : Int32)))
    else
      if x3 < ((-32768) : Int32) then
        zX8_work_328 N x4 (fv_si σ 57 x3)
      else
        if x3 ≤ (65535 : Int32) then
          fv_ri 1 (fv_si σ 57 x3)
        else
          zX8_work_328 N x4 (fv_si σ 57 x3)
  else
    if x3 < ((-128) : Int32) then
      zX8_work_291 N x4 (fv_si σ 57 x3)
    else
      if x3 ≤ (255 : Int32) then
        fv_ri 1 (fv_si σ 57 x3)
      else
        zX8_work_291 N x4 (fv_si σ 57 x3)
noncomputable def zX8_work_62 (N : Nat) (x1 : Int32) (x2 : Int32) (σ : fv_S) : Option fv_O :=
  fv_bi (zX8_expValue N x1 σ) (fun r12 σ11 =>
    if (fv_gi σ11 8) ≤ 0 then
      if fv_in x1 8 then
        if fv_in x1 8 then
          if ¬ (fv_ga σ11 8 x1) = (14 : Int32) then
            if (fv_gi σ11 34) ≤ 0 then
              zX8_work_265 N x2 r12 (fv_ga σ11 10 x1) σ11
            else
              if ¬ (fv_gi σ11 35) = x1 then
                zX8_work_265 N x2 r12 (fv_ga σ11 10 x1) σ11
              else
                if ¬ (fv_gi σ11 34) = (1 : Int32) then
                  if ¬ (fv_gi σ11 34) = (2 : Int32) then
                    if r12 < 0 then
                      zX8_work_241 N (fv_ga σ11 10 x1) (fv_si σ11 55 r12)
                    else
                      if (2 : Int32) < r12 then
                        zX8_work_241 N (fv_ga σ11 10 x1) (fv_si σ11 55 r12)
                      else
                        zX8_work_242 N (fv_ga σ11 10 x1) 1 (fv_si σ11 55 r12)
                  else
                    if r12 < 0 then
                      zX8_work_224 N (fv_ga σ11 10 x1) (fv_si σ11 55 r12)
                    else
                      if (56 : Int32) < r12 then
                        zX8_work_224 N (fv_ga σ11 10 x1) (fv_si σ11 55 r12)
                      else
                        if ¬ (r12 - r12 / (8 : Int32) * (8 : Int32)) = 0 then
                          zX8_work_224 N (fv_ga σ11 10 x1) (fv_si σ11 55 r12)
                        else
                          zX8_work_242 N (fv_ga σ11 10 x1) 1 (fv_si σ11 55 r12)
                else
                  if r12 < 0 then
                    zX8_work_191 N (fv_ga σ11 10 x1) (fv_si σ11 55 r12)
                  else
                    if (7 : Int32) < r12 then
                      zX8_work_191 N (fv_ga σ11 10 x1) (fv_si σ11 55 r12)
                    else
                      zX8_work_242 N (fv_ga σ11 10 x1) 1 (fv_si σ11 55 r12)
          else
            if fv_in x1 8 then
              if (fv_ga σ11 11 x1) = 0 then
                zX8_work_112 N (fv_ga σ11 10 x1) r12 σ11
              else
                zX8_work_112 N (fv_ga σ11 10 x1) (-r12) σ11
            else none
        else none
      else none
    else
      fv_ri 0 σ11) fv_no
noncomputable def zX8_work_27 (N : Nat) (x1 : Int32) (x2 : Int32) (σ : fv_S) : Option fv_O :=
  if fv_in x1 8 then
    if (fv_ga σ 8 x1) = (16 : Int32) then
      zX8_work_62 N x1 x2 σ
    else
      if fv_in x1 8 then
        if (fv_ga σ 8 x1) = (15 : Int32) then
          zX8_work_62 N x1 x2 σ
        else
          if fv_in x1 8 then
            if (fv_ga σ 8 x1) = (14 : Int32) then
              zX8_work_62 N x1 x2 σ
            else
              fv_ri 1 σ
          else none
      else none
  else none
noncomputable def zX8_work (N : Nat) (x1 : Int32) (x2 : Int32) (σ : fv_S) : Option fv_O :=
  if fv_in x1 8 then
    if ¬ (fv_ga σ 8 x1) = (14 : Int32) then
      zX8_work_27 N x1 x2 σ
    else
      if fv_in x1 8 then
        if (fv_ga σ 12 x1) = 0 then
          zX8_work_27 N x1 x2 σ
        else
          fv_ri 1 (fv_si σ 56 0)
      else none
  else none
noncomputable def zX8_layInstruction_207 (N : Nat) (σ : fv_S) : Option fv_O :=
  if ¬ (fv_gi σ 32) = (2 : Int32) then
    fv_ri 1 σ
  else
    fv_bv (zX8_lay ((fv_gi σ 57) >>> (8 : Int32)) σ) (fun σ1 =>
      fv_ri 1 σ1) fv_no
noncomputable def zX8_layInstruction_192 (N : Nat) (σ : fv_S) : Option fv_O :=
  if (fv_gi σ 32) ≤ 0 then
    zX8_layInstruction_207 N σ
  else
    fv_bv (zX8_lay (fv_gi σ 57) σ) (fun σ2 =>
      zX8_layInstruction_207 N σ2) fv_no
noncomputable def zX8_layInstruction_166 (N : Nat) (s1 : Int32) (s2 : Int32) (σ : fv_S) : Option fv_O :=
  fv_bv (zX8_lay (s1 + s2) σ) (fun σ3 =>
    if (fv_gi σ3 36) < 0 then
      zX8_layInstruction_192 N σ3
    else
      if ¬ (fv_gi σ3 30) = 0 then
        zX8_layInstruction_192 N σ3
      else
        fv_bv (zX8_lay (fv_gi σ3 56) σ3) (fun σ4 =>
          zX8_layInstruction_192 N σ4) fv_no) fv_no
noncomputable def zX8_layInstruction_148 (N : Nat) (s1 : Int32) (s2 : Int32) (s3 : Int32) (σ : fv_S) : Option fv_O :=
  if ¬ (fv_gi σ 34) = (2 : Int32) then
    zX8_layInstruction_166 N (s1 + (s2 * s3)) 0 σ
  else
    zX8_layInstruction_166 N (s1 + (s2 * s3)) (fv_gi σ 55) σ
noncomputable def zX8_layInstruction_123 (N : Nat) (σ : fv_S) : Option fv_O :=
  if ¬ (fv_gi σ 34) = (2 : Int32) then
    zX8_layInstruction_148 N (fv_gi σ 31) ((8 : Int32) * (fv_gi σ 55)) 1 σ
  else
    zX8_layInstruction_148 N (fv_gi σ 31) ((8 : Int32) * (fv_gi σ 55)) 0 σ
noncomputable def zX8_layInstruction_101 (N : Nat) (σ : fv_S) : Option fv_O :=
  if (fv_gi σ 36) < 0 then
    zX8_layInstruction_123 N σ
  else
    if (fv_gi σ 30) ≤ 0 then
      zX8_layInstruction_123 N σ
    else
      fv_bv (zX8_lay (fv_gi σ 56) σ) (fun σ5 =>
        zX8_layInstruction_123 N σ5) fv_no
noncomputable def zX8_layInstruction_86 (N : Nat) (σ : fv_S) : Option fv_O :=
  if (fv_gi σ 30) ≤ 0 then
    zX8_layInstruction_101 N σ
  else
    fv_bv (zX8_lay (fv_gi σ 30) σ) (fun σ6 =>
      zX8_layInstruction_101 N σ6) fv_no
noncomputable def zX8_layInstruction_71 (N : Nat) (σ : fv_S) : Option fv_O :=
  if (fv_gi σ 29) ≤ 0 then
    zX8_layInstruction_86 N σ
  else
    fv_bv (zX8_lay (fv_gi σ 29) σ) (fun σ7 =>
      zX8_layInstruction_86 N σ7) fv_no
noncomputable def zX8_layInstruction_68 (N : Nat) (s1 : Int32) (σ : fv_S) : Option fv_O :=
  zX8_layInstruction_71 N (fv_si σ 55 s1)
noncomputable def zX8_layInstruction_12_b (N : Nat) (k12 : Int32 → Int32 → Int32 → fv_S → Option fv_O) (x1 : Int32) (x2 : Int32) (x3 : Int32) (σ : fv_S) : Option fv_O :=
  if (fv_gi σ 28) ≤ x3 then
    if ¬ (fv_gi σ 34) = (3 : Int32) then
      zX8_layInstruction_71 N (fv_si σ 2 x2)
    else
      if ¬ (fv_gi σ 55) = 0 then
        zX8_layInstruction_68 N ((fv_gi σ 55) + (1 : Int32)) (fv_si σ 2 x2)
      else
        zX8_layInstruction_68 N 0 (fv_si σ 2 x2)
  else
    fv_bi (zX8_work N x3 x1 σ) (fun r9 σ8 =>
      if ¬ r9 = 0 then
        k12 x1 x2 (x3 + (1 : Int32)) σ8
      else
        fv_ri 0 σ8) fv_no
noncomputable def zX8_layInstruction_12 (N : Nat) : Nat → Int32 → Int32 → Int32 → fv_S → Option fv_O
  | 0, _, _, _, _ => none
  | n + 1, x1, x2, x3, σ => zX8_layInstruction_12_b N (zX8_layInstruction_12 N n) x1 x2 x3 σ
noncomputable def zX8_layInstruction (N : Nat) (x1 : Int32) (σ : fv_S) : Option fv_O :=
  zX8_layInstruction_12 N N x1 (fv_gi σ 2) 0 (fv_si σ 55 0)
noncomputable def zX8_statement_39 (N : Nat) (x1 : Int32) (x2 : Int64) (σ : fv_S) : Option fv_O :=
  fv_bi (zX8_readOperands N σ) (fun r2 σ1 =>
    if ¬ r2 = 0 then
      fv_bi (zX8_encode x2 σ1) (fun r4 σ3 =>
        if ¬ r4 = 0 then
          fv_bi (zX8_lengthOf σ3) (fun r6 σ5 =>
            if ((fv_gi σ5 20) + r6) ≤ (65536 : Int32) then
              if ¬ (fv_gi σ5 42) = 0 then
                fv_bi (zX8_layInstruction N r6 σ5) (fun r8 σ7 =>
                  if r8 = 0 ∨ r8 = 1 then fv_ri r8 σ7 else none) fv_no
              else
                fv_ri 1 (fv_si σ5 20 ((fv_gi σ5 20) + r6))
            else
              fv_bi (zX8_wrong 8 x1 σ5) (fun r11 σ10 =>
                if r11 = 0 ∨ r11 = 1 then fv_ri r11 σ10 else none) fv_no) fv_no
        else
          fv_bi (zX8_wrong 6 x1 σ3) (fun r14 σ13 =>
            if r14 = 0 ∨ r14 = 1 then fv_ri r14 σ13 else none) fv_no) fv_no
    else
      fv_ri 0 σ1) fv_no
noncomputable def zX8_statement (N : Nat) (x1 : Int32) (x2 : Int64) (σ : fv_S) : Option fv_O :=
  fv_bi (zX8_isStatement x2 σ) (fun r17 σ16 =>
    if r17 = 0 then
      fv_bi (zX8_plain x2 σ16) (fun r19 σ18 =>
        if (0 : Int32) ≤ r19 then
          zX8_statement_39 N x1 x2 σ18
        else
          fv_bi (zX8_isMany x2 σ18) (fun r21 σ20 =>
            if ¬ r21 = 0 then
              zX8_statement_39 N x1 x2 σ20
            else
              fv_bi (zX8_wrong 6 x1 σ20) (fun r23 σ22 =>
                if r23 = 0 ∨ r23 = 1 then fv_ri r23 σ22 else none) fv_no) fv_no) fv_no
    else
      fv_bi (zX8_directive N x1 x2 σ16) (fun r26 σ25 =>
        if r26 = 0 ∨ r26 = 1 then fv_ri r26 σ25 else none) fv_no) fv_no
noncomputable def zX8_readLine_174 (N : Nat) (x1 : Int32) (x3 : Int64) (σ : fv_S) : Option fv_O :=
  fv_bi (zX8_statement N x1 x3 σ) (fun r2 σ1 =>
    if r2 = 0 ∨ r2 = 1 then fv_ri r2 σ1 else none) fv_no
noncomputable def zX8_readLine_143 (N : Nat) (x1 : Int32) (x2 : Int32) (x3 : Int64) (σ : fv_S) : Option fv_O :=
  if ¬ (fv_gi σ 3) = (2 : Int32) then
    zX8_readLine_174 N x1 x3 σ
  else
    if ¬ (lg_cmp (fv_gl σ 7) (4542805 : Int64)) = 0 then
      zX8_readLine_174 N x1 x3 σ
    else
      fv_bv (zX8_next N σ) (fun σ4 =>
        fv_bi (zX8_equal N x1 x2 x3 σ4) (fun r6 σ5 =>
          if r6 = 0 ∨ r6 = 1 then fv_ri r6 σ5 else none) fv_no) fv_no
noncomputable def zX8_readLine (N : Nat) (σ : fv_S) : Option fv_O :=
  fv_bi (zX8_isDone N (fv_si σ 21 (fv_gi σ 20))) (fun r9 σ8 =>
    if ¬ r9 = 0 then
      fv_bv (zX8_next N σ8) (fun σ10 =>
        if (fv_gi σ10 3) = (2 : Int32) then
          fv_bv (zX8_next N σ10) (fun σ11 =>
            fv_bi (zX8_isSign 58 σ11) (fun r13 σ12 =>
              if r13 = 0 then
                zX8_readLine_143 N (fv_gi σ10 4) (fv_gi σ10 5) (fv_gl σ10 7) σ12
              else
                fv_bi (zX8_tell N (fv_gi σ10 4) (fv_gi σ10 5) (fv_gl σ10 7) (fv_gi σ12 20) σ12) (fun r15 σ14 =>
                  if ¬ r15 = 0 then
                    fv_bv (zX8_next N σ14) (fun σ16 =>
                      if ¬ (fv_gi σ16 3) = (1 : Int32) then
                        if (fv_gi σ16 3) = (2 : Int32) then
                          fv_bv (zX8_next N σ16) (fun σ17 =>
                            zX8_readLine_143 N (fv_gi σ16 4) (fv_gi σ16 5) (fv_gl σ16 7) σ17) fv_no
                        else
                          fv_bi (zX8_refuse σ16) (fun r19 σ18 =>
                            if r19 = 0 ∨ r19 = 1 then fv_ri r19 σ18 else none) fv_no
                      else
                        fv_ri 1 σ16) fv_no
                  else
                    fv_ri 0 σ14) fv_no) fv_no) fv_no
        else
          if (fv_gi σ10 3) = (1 : Int32) then
            fv_ri 1 σ10
          else
            fv_bi (zX8_refuse σ10) (fun r22 σ21 =>
              if r22 = 0 then
                fv_ri 0 σ21
              else
                fv_ri 1 σ21) fv_no) fv_no
    else
      fv_bi (zX8_skipLine N σ8) (fun r24 σ23 =>
        if r24 = 0 ∨ r24 = 1 then fv_ri r24 σ23 else none) fv_no) fv_no
noncomputable def zX8_pass_71_b (N : Nat) (k20 : fv_S → Option fv_O) (k71 : fv_S → Option fv_O) (σ : fv_S) : Option fv_O :=
  fv_bi (zX8_byteAt (fv_gi σ 2) σ) (fun r2 σ1 =>
    if r2 = (10 : Int32) then
      k20 (fv_si σ1 2 ((fv_gi σ1 2) + (1 : Int32)))
    else
      k71 (fv_si σ1 2 ((fv_gi σ1 2) + (1 : Int32)))) fv_no
noncomputable def zX8_pass_71 (N : Nat) (k20 : fv_S → Option fv_O) : Nat → fv_S → Option fv_O
  | 0, _ => none
  | n + 1, σ => zX8_pass_71_b N k20 (zX8_pass_71 N k20 n) σ
noncomputable def zX8_pass_20_b (N : Nat) (k20 : fv_S → Option fv_O) (σ : fv_S) : Option fv_O :=
  if (fv_gi σ 1) ≤ (fv_gi σ 2) then
    if (fv_gi σ 45) ≤ 0 then
      fv_ri 1 σ
    else
      fv_bi (zX8_wrong 7 (fv_gi σ 1) σ) (fun r4 σ3 =>
        if r4 = 0 ∨ r4 = 1 then fv_ri r4 σ3 else none) fv_no
  else
    if ((fv_gi σ 41) + (1 : Int32)) ≤ (300 : Int32) then
      fv_bi (zX8_readLine N (fv_si σ 41 ((fv_gi σ 41) + (1 : Int32)))) (fun r7 σ6 =>
        if ¬ r7 = 0 then
          zX8_pass_71 N k20 N σ6
        else
          fv_ri 0 σ6) fv_no
    else
      fv_bi (zX8_wrong 9 (fv_gi σ 2) (fv_si σ 41 ((fv_gi σ 41) + (1 : Int32)))) (fun r9 σ8 =>
        if r9 = 0 ∨ r9 = 1 then fv_ri r9 σ8 else none) fv_no
noncomputable def zX8_pass_20 (N : Nat) : Nat → fv_S → Option fv_O
  | 0, _ => none
  | n + 1, σ => zX8_pass_20_b N (zX8_pass_20 N n) σ
noncomputable def zX8_pass (N : Nat) (σ : fv_S) : Option fv_O :=
  zX8_pass_20 N N (fv_si (fv_si (fv_si (fv_si σ 20 0) 45 0) 41 0) 2 0)
noncomputable def zX8_forge_202_b (N : Nat) (k168 : Int32 → fv_S → Option fv_O) (k202 : Int32 → Int32 → fv_S → Option fv_O) (x2 : Int32) (x3 : Int32) (σ : fv_S) : Option fv_O :=
  if (12 : Int32) ≤ x3 then
    k168 (x2 + (1 : Int32)) σ
  else
    if fv_in (((12 : Int32) * x2) + x3) 2400 then
      if fv_in (((12 : Int32) * x2) + x3) 2400 then
        k202 x2 (x3 + (1 : Int32)) (fv_sa σ 17 (((12 : Int32) * x2) + x3) (fv_ga σ 2 (((12 : Int32) * x2) + x3)))
      else none
    else none
noncomputable def zX8_forge_202 (N : Nat) (k168 : Int32 → fv_S → Option fv_O) : Nat → Int32 → Int32 → fv_S → Option fv_O
  | 0, _, _, _ => none
  | n + 1, x2, x3, σ => zX8_forge_202_b N k168 (zX8_forge_202 N k168 n) x2 x3 σ
noncomputable def zX8_forge_168_b (N : Nat) (k168 : Int32 → fv_S → Option fv_O) (x2 : Int32) (σ : fv_S) : Option fv_O :=
  if (fv_gi σ 13) ≤ x2 then
    fv_ri (fv_gi σ 39) σ
  else
    if fv_in x2 200 then
      if fv_in x2 200 then
        if fv_in x2 200 then
          if fv_in x2 200 then
            zX8_forge_202 N k168 N x2 0 (fv_sa (fv_sa σ 18 x2 (fv_ga σ 3 x2)) 19 x2 (fv_ga σ 4 x2))
          else none
        else none
      else none
    else none
noncomputable def zX8_forge_168 (N : Nat) : Nat → Int32 → fv_S → Option fv_O
  | 0, _, _ => none
  | n + 1, x2, σ => zX8_forge_168_b N (zX8_forge_168 N n) x2 σ
noncomputable def zX8_forge_134_b (N : Nat) (k134 : Int32 → fv_S → Option fv_O) (x2 : Int32) (σ : fv_S) : Option fv_O :=
  if (65536 : Int32) ≤ x2 then
    zX8_forge_168 N N 0 (fv_si σ 51 (fv_gi σ 13))
  else
    if fv_in x2 65536 then
      if fv_in x2 65536 then
        k134 (x2 + (1 : Int32)) (fv_sa σ 13 x2 (fv_ga σ 14 x2))
      else none
    else none
noncomputable def zX8_forge_134 (N : Nat) : Nat → Int32 → fv_S → Option fv_O
  | 0, _, _ => none
  | n + 1, x2, σ => zX8_forge_134_b N (zX8_forge_134 N n) x2 σ
noncomputable def zX8_forge_70 (N : Nat) (x1 : Int32) (σ : fv_S) : Option fv_O :=
  if ¬ x1 = 0 then
    zX8_forge_134 N N 0 (fv_si (fv_si (fv_si (fv_si (fv_si σ 46 0) 47 0) 48 (fv_gi σ 41)) 49 (fv_gi σ 40)) 50 (fv_gi σ 20))
  else
    fv_ri (((-10) : Int32) - (fv_gi σ 8)) (fv_si (fv_si σ 46 (fv_gi σ 41)) 47 (fv_gi σ 9))
noncomputable def zX8_forge_17_b (N : Nat) (k17 : Int32 → fv_S → Option fv_O) (x1 : Int32) (σ : fv_S) : Option fv_O :=
  if (65536 : Int32) ≤ x1 then
    fv_bi (zX8_pass N σ) (fun r10 σ9 =>
      if r10 = 0 then
        zX8_forge_70 N r10 σ9
      else
        fv_bi (zX8_pass N (fv_si (fv_si (fv_si σ9 42 1) 39 0) 40 0)) (fun r12 σ11 =>
          zX8_forge_70 N r12 σ11) fv_no) fv_no
  else
    if fv_in x1 65536 then
      if fv_in x1 65536 then
        k17 (x1 + (1 : Int32)) (fv_sa σ 14 x1 (fv_ga σ 13 x1))
      else none
    else none
noncomputable def zX8_forge_17 (N : Nat) : Nat → Int32 → fv_S → Option fv_O
  | 0, _, _ => none
  | n + 1, x1, σ => zX8_forge_17_b N (zX8_forge_17 N n) x1 σ
noncomputable def zX8_forge (N : Nat) (σ : fv_S) : Option fv_O :=
  zX8_forge_17 N N 0 (fv_si (fv_si (fv_si σ 8 0) 13 0) 42 0)
noncomputable def zX8_told (x1 : Int32) (σ : fv_S) : Option fv_O :=
  if x1 = 0 then
    fv_ri (fv_gi σ 46) σ
  else if x1 = 1 then
    fv_ri (fv_gi σ 47) σ
  else if x1 = 2 then
    fv_ri (fv_gi σ 48) σ
  else if x1 = 3 then
    fv_ri (fv_gi σ 51) σ
  else if x1 = 4 then
    fv_ri (fv_gi σ 49) σ
  else if x1 = 5 then
    fv_ri (fv_gi σ 50) σ
  else 
    fv_ri (-2) σ
noncomputable def zX8_label (x1 : Int32) (σ : fv_S) : Option fv_O :=
  if x1 < 0 then
    fv_ri 0 σ
  else
    if (fv_gi σ 51) ≤ x1 then
      fv_ri 0 σ
    else
      if fv_in x1 200 then
        fv_ri (fv_ga σ 19 x1) σ
      else none
noncomputable def zX8_labelSign (x1 : Int32) (x2 : Int32) (σ : fv_S) : Option fv_O :=
  if x1 < 0 then
    fv_ri (-1) σ
  else
    if (fv_gi σ 51) ≤ x1 then
      fv_ri (-1) σ
    else
      if x2 < 0 then
        fv_ri (-1) σ
      else
        if fv_in x1 200 then
          if (fv_ga σ 18 x1) ≤ x2 then
            fv_ri (-1) σ
          else
            if fv_in (((12 : Int32) * x1) + x2) 2400 then
              fv_ri (fv_ga σ 17 (((12 : Int32) * x1) + x2)) σ
            else none
        else none
noncomputable def zX8_peek (x1 : Int32) (σ : fv_S) : Option fv_O :=
  if fv_in (x1 &&& (65535 : Int32)) 65536 then
    fv_ri (fv_ga σ 13 (x1 &&& (65535 : Int32))) σ
  else none
noncomputable def zX8_plainLength (x1 : Int32) (σ : fv_S) : Option fv_O :=
  if (x1 >>> (6 : Int32)) = 0 then
    if ¬ (x1 &&& (7 : Int32)) = 0 then
      if ¬ (x1 &&& (7 : Int32)) = (1 : Int32) then
        if ¬ (x1 &&& (7 : Int32)) = (2 : Int32) then
          if ¬ (x1 &&& (7 : Int32)) = (6 : Int32) then
            fv_ri 1 σ
          else
            fv_ri 2 σ
        else
          if ((x1 >>> (3 : Int32)) &&& (7 : Int32)) ≤ (3 : Int32) then
            fv_ri 1 σ
          else
            fv_ri 3 σ
      else
        if ¬ (((x1 >>> (3 : Int32)) &&& (7 : Int32)) &&& (1 : Int32)) = 0 then
          fv_ri 1 σ
        else
          fv_ri 3 σ
    else
      if (2 : Int32) ≤ ((x1 >>> (3 : Int32)) &&& (7 : Int32)) then
        fv_ri 2 σ
      else
        fv_ri 1 σ
  else if (x1 >>> (6 : Int32)) = 3 then
    if (x1 &&& (7 : Int32)) = (2 : Int32) then
      fv_ri 3 σ
    else
      if ¬ (x1 &&& (7 : Int32)) = (4 : Int32) then
        if ¬ (x1 &&& (7 : Int32)) = (3 : Int32) then
          if ¬ (x1 &&& (7 : Int32)) = (5 : Int32) then
            if ¬ (x1 &&& (7 : Int32)) = (6 : Int32) then
              fv_ri 1 σ
            else
              fv_ri 2 σ
          else
            if ¬ ((x1 >>> (3 : Int32)) &&& (7 : Int32)) = (1 : Int32) then
              fv_ri 1 σ
            else
              fv_ri 3 σ
        else
          if ¬ ((x1 >>> (3 : Int32)) &&& (7 : Int32)) = 0 then
            if ((x1 >>> (3 : Int32)) &&& (7 : Int32)) = (2 : Int32) then
              fv_ri 2 σ
            else
              if ¬ ((x1 >>> (3 : Int32)) &&& (7 : Int32)) = (3 : Int32) then
                fv_ri 1 σ
              else
                fv_ri 2 σ
          else
            fv_ri 3 σ
      else
        fv_ri 3 σ
  else 
    fv_ri 1 σ
noncomputable def zX8_isBehind237_88 (x2 : Int32) (σ : fv_S) : Option fv_O :=
  if x2 = (6 : Int32) then
    fv_ri 0 σ
  else
    fv_ri 1 σ
noncomputable def zX8_isBehind237 (x1 : Int32) (σ : fv_S) : Option fv_O :=
  if ¬ (x1 >>> (6 : Int32)) = (2 : Int32) then
    if (x1 >>> (6 : Int32)) = (1 : Int32) then
      if (x1 &&& (7 : Int32)) = 0 then
        zX8_isBehind237_88 ((x1 >>> (3 : Int32)) &&& (7 : Int32)) σ
      else if (x1 &&& (7 : Int32)) = 1 then
        zX8_isBehind237_88 ((x1 >>> (3 : Int32)) &&& (7 : Int32)) σ
      else if (x1 &&& (7 : Int32)) = 2 then
        fv_ri 1 σ
      else if (x1 &&& (7 : Int32)) = 3 then
        if (((x1 >>> (3 : Int32)) &&& (7 : Int32)) >>> (1 : Int32)) = (2 : Int32) then
          fv_ri 0 σ
        else
          fv_ri 1 σ
      else if (x1 &&& (7 : Int32)) = 4 then
        if ¬ ((x1 >>> (3 : Int32)) &&& (7 : Int32)) = 0 then
          fv_ri 0 σ
        else
          fv_ri 1 σ
      else if (x1 &&& (7 : Int32)) = 5 then
        if (2 : Int32) ≤ ((x1 >>> (3 : Int32)) &&& (7 : Int32)) then
          fv_ri 0 σ
        else
          fv_ri 1 σ
      else if (x1 &&& (7 : Int32)) = 6 then
        if ((x1 >>> (3 : Int32)) &&& (7 : Int32)) = 0 then
          fv_ri 1 σ
        else
          if ((x1 >>> (3 : Int32)) &&& (7 : Int32)) = (2 : Int32) then
            fv_ri 1 σ
          else
            if ¬ ((x1 >>> (3 : Int32)) &&& (7 : Int32)) = (3 : Int32) then
              fv_ri 0 σ
            else
              fv_ri 1 σ
      else 
        if (6 : Int32) ≤ ((x1 >>> (3 : Int32)) &&& (7 : Int32)) then
          fv_ri 0 σ
        else
          fv_ri 1 σ
    else
      fv_ri 0 σ
  else
    if ((x1 >>> (3 : Int32)) &&& (7 : Int32)) ≤ (3 : Int32) then
      fv_ri 0 σ
    else
      if (4 : Int32) ≤ (x1 &&& (7 : Int32)) then
        fv_ri 0 σ
      else
        fv_ri 1 σ
noncomputable def zX8_signed (x1 : Int32) (σ : fv_S) : Option fv_O :=
  if x1 ≤ (127 : Int32) then
    fv_ri x1 σ
  else
    fv_ri (x1 - (256 : Int32)) σ
noncomputable def zX8_hasPlace_54 (x2 : Int32) (x3 : Int32) (x4 : Int32) (σ : fv_S) : Option fv_O :=
  if ¬ x4 = 0 then
    fv_ri 0 σ
  else
    if ¬ x2 = (6 : Int32) then
      fv_ri 0 σ
    else
      if x3 ≤ (3 : Int32) then
        fv_ri 0 σ
      else
        if (7 : Int32) ≤ x3 then
          fv_ri 0 σ
        else
          fv_ri 1 σ
noncomputable def zX8_hasPlace_42 (x2 : Int32) (x3 : Int32) (x4 : Int32) (σ : fv_S) : Option fv_O :=
  if ¬ x4 = (2 : Int32) then
    zX8_hasPlace_54 x2 x3 x4 σ
  else
    if x3 = (6 : Int32) then
      fv_ri 1 σ
    else
      zX8_hasPlace_54 x2 x3 x4 σ
noncomputable def zX8_hasPlace_36 (x1 : Int32) (x2 : Int32) (x3 : Int32) (x4 : Int32) (σ : fv_S) : Option fv_O :=
  if ¬ x1 = (118 : Int32) then
    fv_ri 1 σ
  else
    zX8_hasPlace_42 x2 x3 x4 σ
noncomputable def zX8_hasPlace (x1 : Int32) (σ : fv_S) : Option fv_O :=
  if ¬ (x1 >>> (6 : Int32)) = (1 : Int32) then
    zX8_hasPlace_42 ((x1 >>> (3 : Int32)) &&& (7 : Int32)) (x1 &&& (7 : Int32)) (x1 >>> (6 : Int32)) σ
  else
    if ((x1 >>> (3 : Int32)) &&& (7 : Int32)) = (6 : Int32) then
      zX8_hasPlace_36 x1 ((x1 >>> (3 : Int32)) &&& (7 : Int32)) (x1 &&& (7 : Int32)) (x1 >>> (6 : Int32)) σ
    else
      if ¬ (x1 &&& (7 : Int32)) = (6 : Int32) then
        zX8_hasPlace_42 ((x1 >>> (3 : Int32)) &&& (7 : Int32)) (x1 &&& (7 : Int32)) (x1 >>> (6 : Int32)) σ
      else
        zX8_hasPlace_36 x1 ((x1 >>> (3 : Int32)) &&& (7 : Int32)) (x1 &&& (7 : Int32)) (x1 >>> (6 : Int32)) σ
noncomputable def zX8_hasHL_51 (x2 : Int32) (x3 : Int32) (σ : fv_S) : Option fv_O :=
  if ¬ x3 = (3 : Int32) then
    fv_ri 0 σ
  else
    if x2 = (4 : Int32) then
      fv_ri 1 σ
    else
      if ¬ x2 = (5 : Int32) then
        fv_ri 0 σ
      else
        fv_ri 1 σ
noncomputable def zX8_hasHL_36 (x2 : Int32) (x3 : Int32) (σ : fv_S) : Option fv_O :=
  if ¬ x3 = (2 : Int32) then
    zX8_hasHL_51 x2 x3 σ
  else
    if x2 = (4 : Int32) then
      fv_ri 1 σ
    else
      if x2 = (5 : Int32) then
        fv_ri 1 σ
      else
        zX8_hasHL_51 x2 x3 σ
noncomputable def zX8_hasHL_111 (x2 : Int32) (x3 : Int32) (σ : fv_S) : Option fv_O :=
  if ¬ x3 = (5 : Int32) then
    fv_ri 0 σ
  else
    if ¬ x2 = (4 : Int32) then
      fv_ri 0 σ
    else
      fv_ri 1 σ
noncomputable def zX8_hasHL_101 (x2 : Int32) (x3 : Int32) (σ : fv_S) : Option fv_O :=
  if ¬ x3 = (3 : Int32) then
    zX8_hasHL_111 x2 x3 σ
  else
    if x2 = (4 : Int32) then
      fv_ri 1 σ
    else
      zX8_hasHL_111 x2 x3 σ
noncomputable def zX8_hasHL (x1 : Int32) (σ : fv_S) : Option fv_O :=
  if ¬ (x1 >>> (6 : Int32)) = 0 then
    if ¬ (x1 >>> (6 : Int32)) = (3 : Int32) then
      fv_ri 0 σ
    else
      if ¬ (x1 &&& (7 : Int32)) = (1 : Int32) then
        zX8_hasHL_101 ((x1 >>> (3 : Int32)) &&& (7 : Int32)) (x1 &&& (7 : Int32)) σ
      else
        if ((x1 >>> (3 : Int32)) &&& (7 : Int32)) = (4 : Int32) then
          fv_ri 1 σ
        else
          if ((x1 >>> (3 : Int32)) &&& (7 : Int32)) = (5 : Int32) then
            fv_ri 1 σ
          else
            if ((x1 >>> (3 : Int32)) &&& (7 : Int32)) = (7 : Int32) then
              fv_ri 1 σ
            else
              zX8_hasHL_101 ((x1 >>> (3 : Int32)) &&& (7 : Int32)) (x1 &&& (7 : Int32)) σ
  else
    if ¬ (x1 &&& (7 : Int32)) = (1 : Int32) then
      zX8_hasHL_36 ((x1 >>> (3 : Int32)) &&& (7 : Int32)) (x1 &&& (7 : Int32)) σ
    else
      if ((x1 >>> (3 : Int32)) &&& (7 : Int32)) = (4 : Int32) then
        fv_ri 1 σ
      else
        if (((x1 >>> (3 : Int32)) &&& (7 : Int32)) &&& (1 : Int32)) = (1 : Int32) then
          fv_ri 1 σ
        else
          zX8_hasHL_36 ((x1 >>> (3 : Int32)) &&& (7 : Int32)) (x1 &&& (7 : Int32)) σ
noncomputable def zX8_decode_145 (s1 : Int32) (σ : fv_S) : Option fv_O :=
  fv_bi (zX8_isBehind237 (fv_gi σ 61) (fv_si σ 63 s1)) (fun r2 σ1 =>
    if r2 = 0 ∨ r2 = 1 then fv_ri r2 σ1 else none) fv_no
noncomputable def zX8_decode_144 (σ : fv_S) : Option fv_O :=
  zX8_decode_145 2 σ
noncomputable def zX8_decode_186 (x1 : Int32) (s1 : Int32) (σ : fv_S) : Option fv_O :=
  fv_bi (zX8_peek (x1 + (1 : Int32)) (fv_si σ 60 s1)) (fun r5 σ4 =>
    if ¬ r5 = (203 : Int32) then
      fv_bi (zX8_plainLength r5 (fv_si (fv_si σ4 61 r5) 64 (x1 + (2 : Int32)))) (fun r7 σ6 =>
        fv_bi (zX8_hasPlace (fv_gi σ6 61) (fv_si σ6 63 ((1 : Int32) + r7))) (fun r9 σ8 =>
          if r9 = 0 then
            fv_bi (zX8_hasHL (fv_gi σ8 61) σ8) (fun r11 σ10 =>
              if r11 = 0 ∨ r11 = 1 then fv_ri r11 σ10 else none) fv_no
          else
            fv_bi (zX8_peek (x1 + (2 : Int32)) σ8) (fun r14 σ13 =>
              fv_bi (zX8_signed r14 σ13) (fun r16 σ15 =>
                fv_ri 1 (fv_si (fv_si (fv_si σ15 62 r16) 64 (x1 + (3 : Int32))) 63 ((fv_gi σ15 63) + (1 : Int32)))) fv_no) fv_no) fv_no) fv_no
    else
      fv_bi (zX8_peek (x1 + (2 : Int32)) (fv_si (fv_si σ4 61 r5) 59 1)) (fun r18 σ17 =>
        fv_bi (zX8_signed r18 σ17) (fun r20 σ19 =>
          fv_bi (zX8_peek (x1 + (3 : Int32)) (fv_si σ19 62 r20)) (fun r22 σ21 =>
            if ¬ (r22 &&& (7 : Int32)) = (6 : Int32) then
              fv_ri 0 (fv_si (fv_si σ21 61 r22) 63 4)
            else
              if (r22 >>> (3 : Int32)) = (6 : Int32) then
                fv_ri 0 (fv_si (fv_si σ21 61 r22) 63 4)
              else
                fv_ri 1 (fv_si (fv_si σ21 61 r22) 63 4)) fv_no) fv_no) fv_no) fv_no
noncomputable def zX8_decode_173 (x1 : Int32) (x2 : Int32) (σ : fv_S) : Option fv_O :=
  if ¬ x2 = (221 : Int32) then
    zX8_decode_186 x1 2 σ
  else
    zX8_decode_186 x1 1 σ
noncomputable def zX8_decode (x1 : Int32) (σ : fv_S) : Option fv_O :=
  fv_bi (zX8_peek x1 σ) (fun r24 σ23 =>
    fv_bi (zX8_plainLength r24 (fv_si (fv_si (fv_si (fv_si (fv_si σ23 59 0) 60 0) 62 0) 61 r24) 64 (x1 + (1 : Int32)))) (fun r26 σ25 =>
      if ¬ r24 = (203 : Int32) then
        if ¬ r24 = (237 : Int32) then
          if r24 = (221 : Int32) then
            zX8_decode_173 x1 r24 (fv_si σ25 63 r26)
          else
            if r24 = (253 : Int32) then
              zX8_decode_173 x1 r24 (fv_si σ25 63 r26)
            else
              fv_ri 1 (fv_si σ25 63 r26)
        else
          fv_bi (zX8_peek (x1 + (1 : Int32)) (fv_si (fv_si σ25 63 r26) 59 2)) (fun r28 σ27 =>
            if ¬ (r28 >>> (6 : Int32)) = (1 : Int32) then
              zX8_decode_144 (fv_si (fv_si σ27 61 r28) 64 (x1 + (2 : Int32)))
            else
              if ¬ (r28 &&& (7 : Int32)) = (3 : Int32) then
                zX8_decode_144 (fv_si (fv_si σ27 61 r28) 64 (x1 + (2 : Int32)))
              else
                zX8_decode_145 4 (fv_si (fv_si σ27 61 r28) 64 (x1 + (2 : Int32)))) fv_no
      else
        fv_bi (zX8_peek (x1 + (1 : Int32)) (fv_si (fv_si σ25 63 r26) 59 1)) (fun r30 σ29 =>
          if (r30 >>> (3 : Int32)) = (6 : Int32) then
            fv_ri 0 (fv_si (fv_si σ29 61 r30) 63 2)
          else
            fv_ri 1 (fv_si (fv_si σ29 61 r30) 63 2)) fv_no) fv_no) fv_no
noncomputable def zX8_one (x1 : Int32) (σ : fv_S) : Option fv_O :=
  if fv_in (fv_gi σ 66) 40 then
    fv_rv (fv_si (fv_sa σ 20 (fv_gi σ 66) x1) 66 ((fv_gi σ 66) + (1 : Int32)))
  else none
noncomputable def zX8_say_3_b (N : Nat) (k3 : Int64 → Int32 → fv_S → Option fv_O) (x1 : Int64) (x3 : Int32) (σ : fv_S) : Option fv_O :=
  if x3 < 0 then
    fv_rv σ
  else
    if (Int64.toInt32 ((x1 >>> ((x3 : Int32).toInt64 &&& (63 : Int64))) &&& (255 : Int64))) ≤ 0 then
      k3 x1 (x3 + ((-8) : Int32)) σ
    else
      fv_bv (zX8_one (Int64.toInt32 ((x1 >>> ((x3 : Int32).toInt64 &&& (63 : Int64))) &&& (255 : Int64))) σ) (fun σ1 =>
        k3 x1 (x3 + ((-8) : Int32)) σ1) fv_no
noncomputable def zX8_say_3 (N : Nat) : Nat → Int64 → Int32 → fv_S → Option fv_O
  | 0, _, _, _ => none
  | n + 1, x1, x3, σ => zX8_say_3_b N (zX8_say_3 N n) x1 x3 σ
noncomputable def zX8_say (N : Nat) (x1 : Int64) (σ : fv_S) : Option fv_O :=
  zX8_say_3 N N x1 56 σ
noncomputable def zX8_number_18_b (N : Nat) (k18 : Int32 → Int32 → fv_S → Option fv_O) (x1 : Int32) (x2 : Int32) (σ : fv_S) : Option fv_O :=
  if x2 ≤ 0 then
    fv_rv σ
  else
    if x2 = 0 then none else
      fv_bv (zX8_one ((48 : Int32) + ((x1 / x2) - (x1 / x2) / (10 : Int32) * (10 : Int32))) σ) (fun σ2 =>
        k18 x1 (x2 / (10 : Int32)) σ2) fv_no
noncomputable def zX8_number_18 (N : Nat) : Nat → Int32 → Int32 → fv_S → Option fv_O
  | 0, _, _, _ => none
  | n + 1, x1, x2, σ => zX8_number_18_b N (zX8_number_18 N n) x1 x2 σ
noncomputable def zX8_number_2_b (N : Nat) (k2 : Int32 → Int32 → fv_S → Option fv_O) (x1 : Int32) (x2 : Int32) (σ : fv_S) : Option fv_O :=
  if x2 = 0 then none else
    if (x1 / x2) ≤ (9 : Int32) then
      zX8_number_18 N N x1 x2 σ
    else
      k2 x1 (x2 * (10 : Int32)) σ
noncomputable def zX8_number_2 (N : Nat) : Nat → Int32 → Int32 → fv_S → Option fv_O
  | 0, _, _, _ => none
  | n + 1, x1, x2, σ => zX8_number_2_b N (zX8_number_2 N n) x1 x2 σ
noncomputable def zX8_number (N : Nat) (x1 : Int32) (σ : fv_S) : Option fv_O :=
  zX8_number_2 N N x1 1 σ
noncomputable def zX8_indexName_31 (N : Nat) (s1 : Int64) (σ : fv_S) : Option fv_O :=
  fv_bv (zX8_say N s1 σ) (fun σ1 =>
    fv_rv σ1) fv_no
noncomputable def zX8_indexName (N : Nat) (σ : fv_S) : Option fv_O :=
  if ¬ (fv_gi σ 60) = 0 then
    if ¬ (fv_gi σ 60) = (1 : Int32) then
      zX8_indexName_31 N 18777 σ
    else
      zX8_indexName_31 N 18776 σ
  else
    zX8_indexName_31 N 18508 σ
noncomputable def zX8_place_63 (N : Nat) (s1 : Int32) (σ : fv_S) : Option fv_O :=
  fv_bv (zX8_number N s1 σ) (fun σ1 =>
    fv_bv (zX8_one 41 σ1) (fun σ2 =>
      fv_rv σ2) fv_no) fv_no
noncomputable def zX8_place_40 (N : Nat) (s1 : Int32) (σ : fv_S) : Option fv_O :=
  fv_bv (zX8_one s1 σ) (fun σ3 =>
    if (0 : Int32) ≤ (fv_gi σ3 62) then
      zX8_place_63 N (fv_gi σ3 62) σ3
    else
      zX8_place_63 N (-(fv_gi σ3 62)) σ3) fv_no
noncomputable def zX8_place (N : Nat) (σ : fv_S) : Option fv_O :=
  if ¬ (fv_gi σ 60) = 0 then
    fv_bv (zX8_one 40 σ) (fun σ4 =>
      fv_bv (zX8_indexName N σ4) (fun σ5 =>
        if (0 : Int32) ≤ (fv_gi σ5 62) then
          zX8_place_40 N 43 σ5
        else
          zX8_place_40 N 45 σ5) fv_no) fv_no
  else
    fv_bv (zX8_say N 675826729 σ) (fun σ6 =>
      fv_rv σ6) fv_no
noncomputable def zX8_octetName_75 (N : Nat) (s1 : Int32) (σ : fv_S) : Option fv_O :=
  fv_bv (zX8_one s1 σ) (fun σ1 =>
    fv_rv σ1) fv_no
noncomputable def zX8_octetName (N : Nat) (x1 : Int32) (σ : fv_S) : Option fv_O :=
  if ¬ x1 = (6 : Int32) then
    if ¬ x1 = 0 then
      if ¬ x1 = (1 : Int32) then
        if ¬ x1 = (2 : Int32) then
          if ¬ x1 = (3 : Int32) then
            if ¬ x1 = (4 : Int32) then
              if ¬ x1 = (5 : Int32) then
                zX8_octetName_75 N 65 σ
              else
                zX8_octetName_75 N 76 σ
            else
              zX8_octetName_75 N 72 σ
          else
            zX8_octetName_75 N 69 σ
        else
          zX8_octetName_75 N 68 σ
      else
        zX8_octetName_75 N 67 σ
    else
      zX8_octetName_75 N 66 σ
  else
    fv_bv (zX8_place N σ) (fun σ2 =>
      fv_rv σ2) fv_no
noncomputable def zX8_write203_137 (N : Nat) (σ : fv_S) : Option fv_O :=
  fv_bv (zX8_octetName N ((fv_gi σ 61) &&& (7 : Int32)) σ) (fun σ1 =>
    fv_rv σ1) fv_no
noncomputable def zX8_write203_91 (N : Nat) (s1 : Int64) (σ : fv_S) : Option fv_O :=
  fv_bv (zX8_say N s1 σ) (fun σ2 =>
    zX8_write203_137 N σ2) fv_no
noncomputable def zX8_write203_123 (N : Nat) (x1 : Int32) (s1 : Int64) (σ : fv_S) : Option fv_O :=
  fv_bv (zX8_say N s1 σ) (fun σ3 =>
    fv_bv (zX8_number N x1 σ3) (fun σ4 =>
      fv_bv (zX8_one 44 σ4) (fun σ5 =>
        zX8_write203_137 N σ5) fv_no) fv_no) fv_no
noncomputable def zX8_write203 (N : Nat) (σ : fv_S) : Option fv_O :=
  if ¬ ((fv_gi σ 61) >>> (6 : Int32)) = 0 then
    if ¬ ((fv_gi σ 61) >>> (6 : Int32)) = (1 : Int32) then
      if ¬ ((fv_gi σ 61) >>> (6 : Int32)) = (2 : Int32) then
        zX8_write203_123 N (((fv_gi σ 61) >>> (3 : Int32)) &&& (7 : Int32)) 1397052448 σ
      else
        zX8_write203_123 N (((fv_gi σ 61) >>> (3 : Int32)) &&& (7 : Int32)) 1380274976 σ
    else
      zX8_write203_123 N (((fv_gi σ 61) >>> (3 : Int32)) &&& (7 : Int32)) 1112101920 σ
  else
    if ¬ (((fv_gi σ 61) >>> (3 : Int32)) &&& (7 : Int32)) = 0 then
      if ¬ (((fv_gi σ 61) >>> (3 : Int32)) &&& (7 : Int32)) = (1 : Int32) then
        if ¬ (((fv_gi σ 61) >>> (3 : Int32)) &&& (7 : Int32)) = (2 : Int32) then
          if ¬ (((fv_gi σ 61) >>> (3 : Int32)) &&& (7 : Int32)) = (3 : Int32) then
            if ¬ (((fv_gi σ 61) >>> (3 : Int32)) &&& (7 : Int32)) = (4 : Int32) then
              if ¬ (((fv_gi σ 61) >>> (3 : Int32)) &&& (7 : Int32)) = (5 : Int32) then
                zX8_write203_91 N 1397902368 σ
              else
                zX8_write203_91 N 1397899552 σ
            else
              zX8_write203_91 N 1397506336 σ
          else
            zX8_write203_91 N 5394976 σ
        else
          zX8_write203_91 N 5393440 σ
      else
        zX8_write203_91 N 1381122848 σ
    else
      zX8_write203_91 N 1380729632 σ
noncomputable def zX8_pairName_47 (N : Nat) (s1 : Int64) (σ : fv_S) : Option fv_O :=
  fv_bv (zX8_say N s1 σ) (fun σ1 =>
    fv_rv σ1) fv_no
noncomputable def zX8_pairName (N : Nat) (x1 : Int32) (x2 : Int32) (σ : fv_S) : Option fv_O :=
  if ¬ x1 = (2 : Int32) then
    if ¬ x1 = 0 then
      if ¬ x1 = (1 : Int32) then
        if x2 = 0 then
          zX8_pairName_47 N 21328 σ
        else
          zX8_pairName_47 N 16710 σ
      else
        zX8_pairName_47 N 17477 σ
    else
      zX8_pairName_47 N 16963 σ
  else
    fv_bv (zX8_indexName N σ) (fun σ2 =>
      fv_rv σ2) fv_no
noncomputable def zX8_wide (x1 : Int32) (σ : fv_S) : Option fv_O :=
  fv_bi (zX8_peek x1 σ) (fun r2 σ1 =>
    fv_bi (zX8_peek (x1 + (1 : Int32)) σ1) (fun r4 σ3 =>
      fv_ri (r2 ||| (r4 <<< (8 : Int32))) σ3) fv_no) fv_no
noncomputable def zX8_m (N : Nat) (σ : fv_S) : Option fv_O :=
  fv_bi (zX8_wide (fv_gi σ 64) σ) (fun r2 σ1 =>
    fv_bv (zX8_number N r2 σ1) (fun σ3 =>
      fv_rv σ3) fv_no) fv_no
noncomputable def zX8_placeM (N : Nat) (σ : fv_S) : Option fv_O :=
  fv_bv (zX8_one 40 σ) (fun σ1 =>
    fv_bv (zX8_m N σ1) (fun σ2 =>
      fv_bv (zX8_one 41 σ2) (fun σ3 =>
        fv_rv σ3) fv_no) fv_no) fv_no
noncomputable def zX8_write237_111 (N : Nat) (x1 : Int32) (s1 : Int32) (σ : fv_S) : Option fv_O :=
  fv_bv (zX8_one s1 σ) (fun σ1 =>
    if x1 ≤ (5 : Int32) then
      fv_rv σ1
    else
      fv_bv (zX8_one 82 σ1) (fun σ2 =>
        fv_rv σ2) fv_no) fv_no
noncomputable def zX8_write237_94 (N : Nat) (x1 : Int32) (s1 : Int64) (σ : fv_S) : Option fv_O :=
  fv_bv (zX8_say N s1 σ) (fun σ3 =>
    if ¬ (x1 &&& (1 : Int32)) = 0 then
      zX8_write237_111 N x1 68 σ3
    else
      zX8_write237_111 N x1 73 σ3) fv_no
noncomputable def zX8_write237_220 (N : Nat) (x3 : Int32) (s1 : Int64) (σ : fv_S) : Option fv_O :=
  fv_bv (zX8_say N s1 σ) (fun σ4 =>
    fv_bv (zX8_pairName N x3 0 σ4) (fun σ5 =>
      fv_rv σ5) fv_no) fv_no
noncomputable def zX8_write237_306 (N : Nat) (s1 : Int64) (σ : fv_S) : Option fv_O :=
  fv_bv (zX8_say N s1 σ) (fun σ6 =>
    fv_rv σ6) fv_no
noncomputable def zX8_write237_331 (N : Nat) (s1 : Int32) (σ : fv_S) : Option fv_O :=
  fv_bv (zX8_number N s1 σ) (fun σ7 =>
    fv_rv σ7) fv_no
noncomputable def zX8_write237_395 (N : Nat) (s1 : Int64) (σ : fv_S) : Option fv_O :=
  fv_bv (zX8_say N s1 σ) (fun σ8 =>
    fv_rv σ8) fv_no
noncomputable def zX8_write237_34 (N : Nat) (x1 : Int32) (x2 : Int32) (x3 : Int32) (s0 : Int32) (σ : fv_S) : Option fv_O :=
  if ¬ ((fv_gi σ 61) >>> (6 : Int32)) = (2 : Int32) then
    if x2 = 0 then
      fv_bv (zX8_say N 4804128 σ) (fun σ9 =>
        fv_bv (zX8_octetName N x1 σ9) (fun σ10 =>
          fv_bv (zX8_say N 740836137 σ10) (fun σ11 =>
            fv_rv σ11) fv_no) fv_no) fv_no
    else if x2 = 1 then
      fv_bv (zX8_say N 5716567799107889452 σ) (fun σ12 =>
        fv_bv (zX8_octetName N x1 σ12) (fun σ13 =>
          fv_rv σ13) fv_no) fv_no
    else if x2 = 2 then
      if s0 = 0 then
        zX8_write237_220 N x3 23435279138835500 σ
      else
        zX8_write237_220 N x3 18370928581299244 σ
    else if x2 = 3 then
      fv_bv (zX8_say N 4998176 σ) (fun σ14 =>
        if s0 = 0 then
          fv_bv (zX8_placeM N σ14) (fun σ15 =>
            fv_bv (zX8_one 44 σ15) (fun σ16 =>
              fv_bv (zX8_pairName N x3 0 σ16) (fun σ17 =>
                fv_rv σ17) fv_no) fv_no) fv_no
        else
          fv_bv (zX8_pairName N x3 0 σ14) (fun σ18 =>
            fv_bv (zX8_one 44 σ18) (fun σ19 =>
              fv_bv (zX8_placeM N σ19) (fun σ20 =>
                fv_rv σ20) fv_no) fv_no) fv_no) fv_no
    else if x2 = 4 then
      fv_bv (zX8_say N 5129543 σ) (fun σ21 =>
        fv_rv σ21) fv_no
    else if x2 = 5 then
      if ¬ x1 = 0 then
        zX8_write237_306 N 1380275273 σ
      else
        zX8_write237_306 N 1380275278 σ
    else if x2 = 6 then
      fv_bv (zX8_say N 4803872 σ) (fun σ22 =>
        if ¬ x1 = 0 then
          zX8_write237_331 N (x1 - (1 : Int32)) σ22
        else
          zX8_write237_331 N 0 σ22) fv_no
    else 
      if ¬ x1 = 0 then
        if ¬ x1 = (1 : Int32) then
          if ¬ x1 = (2 : Int32) then
            if ¬ x1 = (3 : Int32) then
              if ¬ x1 = (4 : Int32) then
                zX8_write237_395 N 5393476 σ
              else
                zX8_write237_395 N 5395012 σ
            else
              zX8_write237_395 N 83855482629202 σ
          else
            zX8_write237_395 N 83855482629193 σ
        else
          zX8_write237_395 N 83855483743297 σ
      else
        zX8_write237_395 N 83855483153473 σ
  else
    if ¬ x2 = 0 then
      if ¬ x2 = (1 : Int32) then
        if ¬ x2 = (2 : Int32) then
          if x1 ≤ (5 : Int32) then
            zX8_write237_94 N x1 5199188 σ
          else
            zX8_write237_94 N x1 20308 σ
        else
          zX8_write237_94 N x1 18766 σ
      else
        zX8_write237_94 N x1 17232 σ
    else
      zX8_write237_94 N x1 19524 σ
noncomputable def zX8_write237 (N : Nat) (σ : fv_S) : Option fv_O :=
  if ¬ ((((fv_gi σ 61) >>> (3 : Int32)) &&& (7 : Int32)) &&& (1 : Int32)) = (1 : Int32) then
    zX8_write237_34 N (((fv_gi σ 61) >>> (3 : Int32)) &&& (7 : Int32)) ((fv_gi σ 61) &&& (7 : Int32)) ((((fv_gi σ 61) >>> (3 : Int32)) &&& (7 : Int32)) >>> (1 : Int32)) 0 σ
  else
    zX8_write237_34 N (((fv_gi σ 61) >>> (3 : Int32)) &&& (7 : Int32)) ((fv_gi σ 61) &&& (7 : Int32)) ((((fv_gi σ 61) >>> (3 : Int32)) &&& (7 : Int32)) >>> (1 : Int32)) 1 σ
noncomputable def zX8_n (N : Nat) (σ : fv_S) : Option fv_O :=
  fv_bi (zX8_peek (fv_gi σ 64) σ) (fun r2 σ1 =>
    fv_bv (zX8_number N r2 σ1) (fun σ3 =>
      fv_rv σ3) fv_no) fv_no
noncomputable def zX8_writeLoad_97 (N : Nat) (x2 : Int32) (x3 : Int32) (σ : fv_S) : Option fv_O :=
  if ¬ x2 = 0 then
    fv_rv σ
  else
    fv_bv (zX8_one 44 σ) (fun σ1 =>
      if x3 = 0 then
        fv_bv (zX8_one 65 σ1) (fun σ2 =>
          fv_rv σ2) fv_no
      else
        fv_bv (zX8_indexName N σ1) (fun σ3 =>
          fv_rv σ3) fv_no) fv_no
noncomputable def zX8_writeLoad_63 (N : Nat) (x1 : Int32) (x2 : Int32) (x3 : Int32) (σ : fv_S) : Option fv_O :=
  if (2 : Int32) ≤ x1 then
    if (4 : Int32) ≤ x1 then
      fv_bv (zX8_placeM N σ) (fun σ4 =>
        zX8_writeLoad_97 N x2 x3 σ4) fv_no
    else
      fv_bv (zX8_say N 675562793 σ) (fun σ5 =>
        zX8_writeLoad_97 N x2 x3 σ5) fv_no
  else
    fv_bv (zX8_say N 675431209 σ) (fun σ6 =>
      zX8_writeLoad_97 N x2 x3 σ6) fv_no
noncomputable def zX8_writeLoad_57 (N : Nat) (x1 : Int32) (x2 : Int32) (x3 : Int32) (σ : fv_S) : Option fv_O :=
  fv_bv (zX8_one 44 σ) (fun σ7 =>
    zX8_writeLoad_63 N x1 x2 x3 σ7) fv_no
noncomputable def zX8_writeLoad_35 (N : Nat) (x1 : Int32) (x2 : Int32) (s0 : Int32) (σ : fv_S) : Option fv_O :=
  if x2 = 0 then
    zX8_writeLoad_63 N x1 x2 s0 σ
  else
    if s0 = 0 then
      fv_bv (zX8_one 65 σ) (fun σ8 =>
        zX8_writeLoad_57 N x1 x2 s0 σ8) fv_no
    else
      fv_bv (zX8_indexName N σ) (fun σ9 =>
        zX8_writeLoad_57 N x1 x2 s0 σ9) fv_no
noncomputable def zX8_writeLoad_30 (N : Nat) (x1 : Int32) (x2 : Int32) (σ : fv_S) : Option fv_O :=
  zX8_writeLoad_35 N x1 x2 1 σ
noncomputable def zX8_writeLoad_19 (N : Nat) (x1 : Int32) (s0 : Int32) (σ : fv_S) : Option fv_O :=
  if x1 = (4 : Int32) then
    zX8_writeLoad_30 N x1 s0 σ
  else
    if ¬ x1 = (5 : Int32) then
      zX8_writeLoad_35 N x1 s0 0 σ
    else
      zX8_writeLoad_30 N x1 s0 σ
noncomputable def zX8_writeLoad (N : Nat) (x1 : Int32) (σ : fv_S) : Option fv_O :=
  fv_bv (zX8_say N 4998176 σ) (fun σ10 =>
    if ¬ (x1 &&& (1 : Int32)) = (1 : Int32) then
      zX8_writeLoad_19 N x1 0 σ10
    else
      zX8_writeLoad_19 N x1 1 σ10) fv_no
noncomputable def zX8_conditionName_81 (N : Nat) (s1 : Int64) (σ : fv_S) : Option fv_O :=
  fv_bv (zX8_say N s1 σ) (fun σ1 =>
    fv_rv σ1) fv_no
noncomputable def zX8_conditionName (N : Nat) (x1 : Int32) (σ : fv_S) : Option fv_O :=
  if ¬ x1 = 0 then
    if ¬ x1 = (1 : Int32) then
      if ¬ x1 = (2 : Int32) then
        if ¬ x1 = (3 : Int32) then
          if ¬ x1 = (4 : Int32) then
            if ¬ x1 = (5 : Int32) then
              if ¬ x1 = (6 : Int32) then
                zX8_conditionName_81 N 77 σ
              else
                zX8_conditionName_81 N 80 σ
            else
              zX8_conditionName_81 N 20549 σ
          else
            zX8_conditionName_81 N 20559 σ
        else
          zX8_conditionName_81 N 67 σ
      else
        zX8_conditionName_81 N 20035 σ
    else
      zX8_conditionName_81 N 90 σ
  else
    zX8_conditionName_81 N 20058 σ
noncomputable def zX8_near (N : Nat) (x1 : Int32) (σ : fv_S) : Option fv_O :=
  fv_bi (zX8_peek (fv_gi σ 64) σ) (fun r2 σ1 =>
    fv_bi (zX8_signed r2 σ1) (fun r4 σ3 =>
      fv_bv (zX8_number N (((x1 + (fv_gi σ 63)) + r4) &&& (65535 : Int32)) σ3) (fun σ5 =>
        fv_rv σ5) fv_no) fv_no) fv_no
noncomputable def zX8_writeFirst_156 (N : Nat) (x1 : Int32) (σ : fv_S) : Option fv_O :=
  fv_bv (zX8_near N x1 σ) (fun σ1 =>
    fv_rv σ1) fv_no
noncomputable def zX8_writeFirst_138 (N : Nat) (x1 : Int32) (x2 : Int32) (σ : fv_S) : Option fv_O :=
  if x2 ≤ (3 : Int32) then
    zX8_writeFirst_156 N x1 σ
  else
    fv_bv (zX8_conditionName N (x2 - (4 : Int32)) σ) (fun σ2 =>
      fv_bv (zX8_one 44 σ2) (fun σ3 =>
        zX8_writeFirst_156 N x1 σ3) fv_no) fv_no
noncomputable def zX8_writeFirst_253 (N : Nat) (x4 : Int32) (σ : fv_S) : Option fv_O :=
  fv_bv (zX8_pairName N x4 0 σ) (fun σ4 =>
    fv_rv σ4) fv_no
noncomputable def zX8_writeFirst_285 (N : Nat) (x2 : Int32) (σ : fv_S) : Option fv_O :=
  fv_bv (zX8_octetName N x2 σ) (fun σ5 =>
    fv_rv σ5) fv_no
noncomputable def zX8_writeFirst_263 (N : Nat) (x2 : Int32) (x3 : Int32) (σ : fv_S) : Option fv_O :=
  if ¬ x3 = (5 : Int32) then
    fv_bv (zX8_say N 1229865760 σ) (fun σ6 =>
      zX8_writeFirst_285 N x2 σ6) fv_no
  else
    fv_bv (zX8_say N 1145389856 σ) (fun σ7 =>
      zX8_writeFirst_285 N x2 σ7) fv_no
noncomputable def zX8_writeFirst_399 (N : Nat) (s1 : Int64) (σ : fv_S) : Option fv_O :=
  fv_bv (zX8_say N s1 σ) (fun σ8 =>
    fv_rv σ8) fv_no
noncomputable def zX8_writeFirst_35 (N : Nat) (x1 : Int32) (x2 : Int32) (x3 : Int32) (x4 : Int32) (s0 : Int32) (σ : fv_S) : Option fv_O :=
  if x3 = 0 then
    if ¬ x2 = 0 then
      if ¬ x2 = (1 : Int32) then
        if ¬ x2 = (2 : Int32) then
          fv_bv (zX8_say N 4870688 σ) (fun σ9 =>
            zX8_writeFirst_138 N x1 x2 σ9) fv_no
        else
          fv_bv (zX8_say N 293304424992 σ) (fun σ10 =>
            zX8_writeFirst_138 N x1 x2 σ10) fv_no
      else
        fv_bv (zX8_say N 76244800587308 σ) (fun σ11 =>
          fv_bv (zX8_say N 4277799 σ11) (fun σ12 =>
            fv_rv σ12) fv_no) fv_no
    else
      fv_bv (zX8_say N 5132112 σ) (fun σ13 =>
        fv_rv σ13) fv_no
  else if x3 = 1 then
    if s0 = 0 then
      fv_bv (zX8_say N 4998176 σ) (fun σ14 =>
        fv_bv (zX8_pairName N x4 0 σ14) (fun σ15 =>
          fv_bv (zX8_one 44 σ15) (fun σ16 =>
            fv_bv (zX8_m N σ16) (fun σ17 =>
              fv_rv σ17) fv_no) fv_no) fv_no) fv_no
    else
      fv_bv (zX8_say N 1094992928 σ) (fun σ18 =>
        fv_bv (zX8_indexName N σ18) (fun σ19 =>
          fv_bv (zX8_one 44 σ19) (fun σ20 =>
            fv_bv (zX8_pairName N x4 0 σ20) (fun σ21 =>
              fv_rv σ21) fv_no) fv_no) fv_no) fv_no
  else if x3 = 2 then
    fv_bv (zX8_writeLoad N x2 σ) (fun σ22 =>
      fv_rv σ22) fv_no
  else if x3 = 3 then
    if s0 = 0 then
      fv_bv (zX8_say N 1229865760 σ) (fun σ23 =>
        zX8_writeFirst_253 N x4 σ23) fv_no
    else
      fv_bv (zX8_say N 1145389856 σ) (fun σ24 =>
        zX8_writeFirst_253 N x4 σ24) fv_no
  else if x3 = 4 then
    zX8_writeFirst_263 N x2 x3 σ
  else if x3 = 5 then
    zX8_writeFirst_263 N x2 x3 σ
  else if x3 = 6 then
    fv_bv (zX8_say N 4998176 σ) (fun σ25 =>
      fv_bv (zX8_octetName N x2 σ25) (fun σ26 =>
        fv_bv (zX8_one 44 σ26) (fun σ27 =>
          fv_bv (zX8_n N σ27) (fun σ28 =>
            fv_rv σ28) fv_no) fv_no) fv_no) fv_no
  else 
    if ¬ x2 = 0 then
      if ¬ x2 = (1 : Int32) then
        if ¬ x2 = (2 : Int32) then
          if ¬ x2 = (3 : Int32) then
            if ¬ x2 = (4 : Int32) then
              if ¬ x2 = (5 : Int32) then
                if ¬ x2 = (6 : Int32) then
                  zX8_writeFirst_399 N 4408134 σ
                else
                  zX8_writeFirst_399 N 5456710 σ
              else
                zX8_writeFirst_399 N 4411468 σ
            else
              zX8_writeFirst_399 N 4473153 σ
          else
            zX8_writeFirst_399 N 5395009 σ
        else
          zX8_writeFirst_399 N 5393473 σ
      else
        zX8_writeFirst_399 N 1381122881 σ
    else
      zX8_writeFirst_399 N 1380729665 σ
noncomputable def zX8_writeFirst (N : Nat) (x1 : Int32) (σ : fv_S) : Option fv_O :=
  if ¬ ((((fv_gi σ 61) >>> (3 : Int32)) &&& (7 : Int32)) &&& (1 : Int32)) = (1 : Int32) then
    zX8_writeFirst_35 N x1 (((fv_gi σ 61) >>> (3 : Int32)) &&& (7 : Int32)) ((fv_gi σ 61) &&& (7 : Int32)) ((((fv_gi σ 61) >>> (3 : Int32)) &&& (7 : Int32)) >>> (1 : Int32)) 0 σ
  else
    zX8_writeFirst_35 N x1 (((fv_gi σ 61) >>> (3 : Int32)) &&& (7 : Int32)) ((fv_gi σ 61) &&& (7 : Int32)) ((((fv_gi σ 61) >>> (3 : Int32)) &&& (7 : Int32)) >>> (1 : Int32)) 1 σ
noncomputable def zX8_sumName_81 (N : Nat) (s1 : Int64) (σ : fv_S) : Option fv_O :=
  fv_bv (zX8_say N s1 σ) (fun σ1 =>
    fv_rv σ1) fv_no
noncomputable def zX8_sumName (N : Nat) (x1 : Int32) (σ : fv_S) : Option fv_O :=
  if ¬ x1 = 0 then
    if ¬ x1 = (1 : Int32) then
      if ¬ x1 = (2 : Int32) then
        if ¬ x1 = (3 : Int32) then
          if ¬ x1 = (4 : Int32) then
            if ¬ x1 = (5 : Int32) then
              if ¬ x1 = (6 : Int32) then
                zX8_sumName_81 N 4411424 σ
              else
                zX8_sumName_81 N 5198368 σ
            else
              zX8_sumName_81 N 1481593376 σ
          else
            zX8_sumName_81 N 1095648288 σ
        else
          zX8_sumName_81 N 91544059134252 σ
      else
        zX8_sumName_81 N 1398096416 σ
    else
      zX8_sumName_81 N 71761439768876 σ
  else
    zX8_sumName_81 N 71761456546092 σ
noncomputable def zX8_writeThird_133 (N : Nat) (σ : fv_S) : Option fv_O :=
  fv_bv (zX8_say N 17737 σ) (fun σ1 =>
    fv_rv σ1) fv_no
noncomputable def zX8_writeThird (N : Nat) (x1 : Int32) (σ : fv_S) : Option fv_O :=
  if x1 = 0 then
    fv_bv (zX8_say N 4870176 σ) (fun σ2 =>
      fv_bv (zX8_m N σ2) (fun σ3 =>
        fv_rv σ3) fv_no) fv_no
  else if x1 = 1 then
    zX8_writeThird_133 N σ
  else if x1 = 2 then
    fv_bv (zX8_say N 340733993000 σ) (fun σ4 =>
      fv_bv (zX8_n N σ4) (fun σ5 =>
        fv_bv (zX8_say N 2698305 σ5) (fun σ6 =>
          fv_rv σ6) fv_no) fv_no) fv_no
  else if x1 = 3 then
    fv_bv (zX8_say N 80599897418792 σ) (fun σ7 =>
      fv_bv (zX8_n N σ7) (fun σ8 =>
        fv_bv (zX8_one 41 σ8) (fun σ9 =>
          fv_rv σ9) fv_no) fv_no) fv_no
  else if x1 = 4 then
    fv_bv (zX8_say N 4996779144136108332 σ) (fun σ10 =>
      fv_bv (zX8_indexName N σ10) (fun σ11 =>
        fv_rv σ11) fv_no) fv_no
  else if x1 = 5 then
    fv_bv (zX8_say N 4996779264157960268 σ) (fun σ12 =>
      fv_rv σ12) fv_no
  else if x1 = 6 then
    fv_bv (zX8_say N 17481 σ) (fun σ13 =>
      fv_rv σ13) fv_no
  else 
    zX8_writeThird_133 N σ
noncomputable def zX8_writeLast_135 (N : Nat) (s1 : Int64) (σ : fv_S) : Option fv_O :=
  fv_bv (zX8_say N s1 σ) (fun σ1 =>
    fv_rv σ1) fv_no
noncomputable def zX8_writeLast_202 (N : Nat) (x1 : Int32) (σ : fv_S) : Option fv_O :=
  fv_bv (zX8_conditionName N x1 σ) (fun σ2 =>
    fv_bv (zX8_one 44 σ2) (fun σ3 =>
      fv_bv (zX8_m N σ3) (fun σ4 =>
        fv_rv σ4) fv_no) fv_no) fv_no
noncomputable def zX8_writeLast_180 (N : Nat) (x1 : Int32) (x2 : Int32) (σ : fv_S) : Option fv_O :=
  if ¬ x2 = (2 : Int32) then
    fv_bv (zX8_say N 288858328096 σ) (fun σ5 =>
      zX8_writeLast_202 N x1 σ5) fv_no
  else
    fv_bv (zX8_say N 4870176 σ) (fun σ6 =>
      zX8_writeLast_202 N x1 σ6) fv_no
noncomputable def zX8_writeLast_34 (N : Nat) (x1 : Int32) (x2 : Int32) (x3 : Int32) (s0 : Int32) (σ : fv_S) : Option fv_O :=
  if x2 = 0 then
    fv_bv (zX8_say N 1380275232 σ) (fun σ7 =>
      fv_bv (zX8_conditionName N x1 σ7) (fun σ8 =>
        fv_rv σ8) fv_no) fv_no
  else if x2 = 1 then
    if ¬ s0 = 0 then
      if (2 : Int32) ≤ x3 then
        if ¬ x3 = (2 : Int32) then
          fv_bv (zX8_say N 83855483818028 σ) (fun σ9 =>
            fv_bv (zX8_indexName N σ9) (fun σ10 =>
              fv_rv σ10) fv_no) fv_no
        else
          fv_bv (zX8_say N 1246765096 σ) (fun σ11 =>
            fv_bv (zX8_indexName N σ11) (fun σ12 =>
              fv_bv (zX8_one 41 σ12) (fun σ13 =>
                fv_rv σ13) fv_no) fv_no) fv_no
      else
        if ¬ x3 = 0 then
          zX8_writeLast_135 N 4544600 σ
        else
          zX8_writeLast_135 N 5391700 σ
    else
      fv_bv (zX8_say N 1347375136 σ) (fun σ14 =>
        fv_bv (zX8_pairName N x3 1 σ14) (fun σ15 =>
          fv_rv σ15) fv_no) fv_no
  else if x2 = 2 then
    zX8_writeLast_180 N x1 x2 σ
  else if x2 = 3 then
    fv_bv (zX8_writeThird N x1 σ) (fun σ16 =>
      fv_rv σ16) fv_no
  else if x2 = 4 then
    zX8_writeLast_180 N x1 x2 σ
  else if x2 = 5 then
    if s0 = 0 then
      fv_bv (zX8_say N 345028904992 σ) (fun σ17 =>
        fv_bv (zX8_pairName N x3 1 σ17) (fun σ18 =>
          fv_rv σ18) fv_no) fv_no
    else
      fv_bv (zX8_say N 288858328096 σ) (fun σ19 =>
        fv_bv (zX8_m N σ19) (fun σ20 =>
          fv_rv σ20) fv_no) fv_no
  else if x2 = 6 then
    fv_bv (zX8_sumName N x1 σ) (fun σ21 =>
      fv_bv (zX8_n N σ21) (fun σ22 =>
        fv_rv σ22) fv_no) fv_no
  else 
    fv_bv (zX8_say N 1381192736 σ) (fun σ23 =>
      fv_bv (zX8_number N ((8 : Int32) * x1) σ23) (fun σ24 =>
        fv_rv σ24) fv_no) fv_no
noncomputable def zX8_writeLast (N : Nat) (σ : fv_S) : Option fv_O :=
  if ¬ ((((fv_gi σ 61) >>> (3 : Int32)) &&& (7 : Int32)) &&& (1 : Int32)) = (1 : Int32) then
    zX8_writeLast_34 N (((fv_gi σ 61) >>> (3 : Int32)) &&& (7 : Int32)) ((fv_gi σ 61) &&& (7 : Int32)) ((((fv_gi σ 61) >>> (3 : Int32)) &&& (7 : Int32)) >>> (1 : Int32)) 0 σ
  else
    zX8_writeLast_34 N (((fv_gi σ 61) >>> (3 : Int32)) &&& (7 : Int32)) ((fv_gi σ 61) &&& (7 : Int32)) ((((fv_gi σ 61) >>> (3 : Int32)) &&& (7 : Int32)) >>> (1 : Int32)) 1 σ
noncomputable def zX8_writeAt (N : Nat) (x1 : Int32) (σ : fv_S) : Option fv_O :=
  fv_bi (zX8_decode x1 (fv_si σ 66 0)) (fun r2 σ1 =>
    if ¬ r2 = 0 then
      if ¬ (fv_gi σ1 59) = (1 : Int32) then
        if ¬ (fv_gi σ1 59) = (2 : Int32) then
          if ¬ ((fv_gi σ1 61) >>> (6 : Int32)) = 0 then
            if ¬ ((fv_gi σ1 61) >>> (6 : Int32)) = (3 : Int32) then
              if ¬ (fv_gi σ1 61) = (118 : Int32) then
                if ¬ ((fv_gi σ1 61) >>> (6 : Int32)) = (1 : Int32) then
                  fv_bv (zX8_sumName N (((fv_gi σ1 61) >>> (3 : Int32)) &&& (7 : Int32)) σ1) (fun σ3 =>
                    fv_bv (zX8_octetName N ((fv_gi σ3 61) &&& (7 : Int32)) σ3) (fun σ4 =>
                      fv_ri (fv_gi σ4 63) σ4) fv_no) fv_no
                else
                  fv_bv (zX8_say N 4998176 σ1) (fun σ5 =>
                    fv_bv (zX8_octetName N (((fv_gi σ5 61) >>> (3 : Int32)) &&& (7 : Int32)) σ5) (fun σ6 =>
                      fv_bv (zX8_one 44 σ6) (fun σ7 =>
                        fv_bv (zX8_octetName N ((fv_gi σ7 61) &&& (7 : Int32)) σ7) (fun σ8 =>
                          fv_ri (fv_gi σ8 63) σ8) fv_no) fv_no) fv_no) fv_no
              else
                fv_bv (zX8_say N 1212238932 σ1) (fun σ9 =>
                  fv_ri (fv_gi σ9 63) σ9) fv_no
            else
              fv_bv (zX8_writeLast N σ1) (fun σ10 =>
                fv_ri (fv_gi σ10 63) σ10) fv_no
          else
            fv_bv (zX8_writeFirst N x1 σ1) (fun σ11 =>
              fv_ri (fv_gi σ11 63) σ11) fv_no
        else
          fv_bv (zX8_write237 N σ1) (fun σ12 =>
            fv_ri (fv_gi σ12 63) σ12) fv_no
      else
        fv_bv (zX8_write203 N σ1) (fun σ13 =>
          fv_ri (fv_gi σ13 63) σ13) fv_no
    else
      fv_bv (zX8_say N 4473376 σ1) (fun σ14 =>
        fv_bi (zX8_peek x1 σ14) (fun r16 σ15 =>
          fv_bv (zX8_number N r16 σ15) (fun σ17 =>
            fv_ri 1 σ17) fv_no) fv_no) fv_no) fv_no
noncomputable def zX8_write_29_b (N : Nat) (k29 : Int32 → Int32 → fv_S → Option fv_O) (x2 : Int32) (x3 : Int32) (σ : fv_S) : Option fv_O :=
  if (fv_gi σ 66) ≤ x3 then
    fv_ri x2 σ
  else
    if fv_in x3 40 then
      if fv_in x3 40 then
        k29 x2 (x3 + (1 : Int32)) (fv_sa σ 21 x3 (fv_ga σ 20 x3))
      else none
    else none
noncomputable def zX8_write_29 (N : Nat) : Nat → Int32 → Int32 → fv_S → Option fv_O
  | 0, _, _, _ => none
  | n + 1, x2, x3, σ => zX8_write_29_b N (zX8_write_29 N n) x2 x3 σ
noncomputable def zX8_write (N : Nat) (x1 : Int32) (σ : fv_S) : Option fv_O :=
  if x1 < 0 then
    fv_ri (-2) σ
  else
    if x1 ≤ (65535 : Int32) then
      fv_bi (zX8_writeAt N x1 σ) (fun r4 σ3 =>
        zX8_write_29 N N r4 0 (fv_si σ3 68 (fv_gi σ3 66))) fv_no
    else
      fv_ri (-2) σ
noncomputable def zX8_sign (x1 : Int32) (σ : fv_S) : Option fv_O :=
  if x1 < 0 then
    fv_ri (-1) σ
  else
    if (fv_gi σ 68) ≤ x1 then
      fv_ri (-1) σ
    else
      if fv_in x1 40 then
        fv_ri (fv_ga σ 21 x1) σ
      else none
noncomputable def zX8_source_84_b (N : Nat) (k33 : Int32 → Int32 → Int32 → Int32 → Int32 → fv_S → Option fv_O) (k84 : Int32 → Int32 → Int32 → Int32 → Int32 → Int32 → fv_S → Option fv_O) (x1 : Int32) (x2 : Int32) (x3 : Int32) (x4 : Int32) (x5 : Int32) (x6 : Int32) (σ : fv_S) : Option fv_O :=
  if (fv_gi σ 66) ≤ x6 then
    if fv_in x3 9000 then
      k33 x1 x2 (x3 + (1 : Int32)) x4 (x5 + (1 : Int32)) (fv_sa σ 22 x3 10)
    else none
  else
    if fv_in x6 40 then
      if fv_in x3 9000 then
        k84 x1 x2 (x3 + (1 : Int32)) x4 x5 (x6 + (1 : Int32)) (fv_sa σ 22 x3 (fv_ga σ 20 x6))
      else none
    else none
noncomputable def zX8_source_84 (N : Nat) (k33 : Int32 → Int32 → Int32 → Int32 → Int32 → fv_S → Option fv_O) : Nat → Int32 → Int32 → Int32 → Int32 → Int32 → Int32 → fv_S → Option fv_O
  | 0, _, _, _, _, _, _, _ => none
  | n + 1, x1, x2, x3, x4, x5, x6, σ => zX8_source_84_b N k33 (zX8_source_84 N k33 n) x1 x2 x3 x4 x5 x6 σ
noncomputable def zX8_source_145_b (N : Nat) (k145 : Int32 → Int32 → fv_S → Option fv_O) (x3 : Int32) (x5 : Int32) (σ : fv_S) : Option fv_O :=
  if x3 ≤ x5 then
    fv_ri x3 (fv_si σ 1 x3)
  else
    if fv_in x5 9000 then
      if fv_in x5 6000 then
        k145 x3 (x5 + (1 : Int32)) (fv_sa σ 1 x5 (fv_ga σ 22 x5))
      else none
    else none
noncomputable def zX8_source_145 (N : Nat) : Nat → Int32 → Int32 → fv_S → Option fv_O
  | 0, _, _, _ => none
  | n + 1, x3, x5, σ => zX8_source_145_b N (zX8_source_145 N n) x3 x5 σ
noncomputable def zX8_source_33_b (N : Nat) (k33 : Int32 → Int32 → Int32 → Int32 → Int32 → fv_S → Option fv_O) (x1 : Int32) (x2 : Int32) (x3 : Int32) (x4 : Int32) (x5 : Int32) (σ : fv_S) : Option fv_O :=
  if x2 ≤ x5 then
    if x3 ≤ (6000 : Int32) then
      zX8_source_145 N N x3 0 σ
    else
      fv_ri (-4) σ
  else
    if (0 : Int32) ≤ x5 then
      fv_bi (zX8_writeAt N (x4 &&& (65535 : Int32)) σ) (fun r7 σ6 =>
        zX8_source_84 N k33 N x1 x2 x3 ((x4 + r7) &&& (65535 : Int32)) x5 0 σ6) fv_no
    else
      fv_bv (zX8_say N 1330792224 (fv_si σ 66 0)) (fun σ8 =>
        fv_bv (zX8_number N x1 σ8) (fun σ9 =>
          zX8_source_84 N k33 N x1 x2 x3 x4 x5 0 σ9) fv_no) fv_no
noncomputable def zX8_source_33 (N : Nat) : Nat → Int32 → Int32 → Int32 → Int32 → Int32 → fv_S → Option fv_O
  | 0, _, _, _, _, _, _ => none
  | n + 1, x1, x2, x3, x4, x5, σ => zX8_source_33_b N (zX8_source_33 N n) x1 x2 x3 x4 x5 σ
noncomputable def zX8_source (N : Nat) (x1 : Int32) (x2 : Int32) (σ : fv_S) : Option fv_O :=
  if x1 < 0 then
    fv_ri (-2) σ
  else
    if (65535 : Int32) < x1 then
      fv_ri (-2) σ
    else
      if x2 < (1 : Int32) then
        fv_ri (-2) σ
      else
        if x2 ≤ (300 : Int32) then
          zX8_source_33 N N x1 x2 0 x1 (-1) σ
        else
          fv_ri (-2) σ
noncomputable def zX8_sourceAt (x1 : Int32) (σ : fv_S) : Option fv_O :=
  if x1 < 0 then
    fv_ri (-1) σ
  else
    if (fv_gi σ 1) ≤ x1 then
      fv_ri (-1) σ
    else
      if fv_in x1 6000 then
        fv_ri (fv_ga σ 1 x1) σ
      else none
noncomputable def zX8_octet (x1 : Int32) (σ : fv_S) : Option fv_O :=
  if x1 < 0 then
    fv_ri (-1) σ
  else
    if (65536 : Int32) ≤ x1 then
      fv_ri (-1) σ
    else
      if fv_in x1 65536 then
        fv_ri (fv_ga σ 13 x1) σ
      else none
noncomputable def zX8_put (x1 : Int32) (x2 : Int32) (σ : fv_S) : Option fv_O :=
  if x1 < 0 then
    fv_ri (-1) σ
  else
    if x1 ≤ (65535 : Int32) then
      if x2 < 0 then
        fv_ri (-2) σ
      else
        if x2 ≤ (255 : Int32) then
          if fv_in x1 65536 then
            if fv_in x1 65536 then
              fv_ri (fv_ga σ 13 x1) (fv_sa σ 13 x1 x2)
            else none
          else none
        else
          fv_ri (-2) σ
    else
      fv_ri (-1) σ
noncomputable def zX8_two (x1 : Int32) (σ : fv_S) : Option fv_O :=
  if fv_in x1 8 then
    if fv_in (x1 + (1 : Int32)) 8 then
      fv_ri (((fv_ga σ 23 x1) <<< (8 : Int32)) ||| (fv_ga σ 23 (x1 + (1 : Int32)))) σ
    else none
  else none
noncomputable def zX8_at_99 (x1 : Int32) (σ : fv_S) : Option fv_O :=
  fv_bi (zX8_two (((2 : Int32) * x1) - (2 : Int32)) σ) (fun r2 σ1 =>
    fv_ri r2 σ1) fv_no
noncomputable def zX8_at_128 (x1 : Int32) (σ : fv_S) : Option fv_O :=
  if fv_in (((2 : Int32) * x1) - (10 : Int32)) 8 then
    if fv_in (((2 : Int32) * x1) - (9 : Int32)) 8 then
      fv_ri (((fv_ga σ 24 (((2 : Int32) * x1) - (10 : Int32))) <<< (8 : Int32)) ||| (fv_ga σ 24 (((2 : Int32) * x1) - (9 : Int32)))) σ
    else none
  else none
noncomputable def zX8_at (x1 : Int32) (σ : fv_S) : Option fv_O :=
  if x1 = 0 then
    fv_ri (((fv_ga σ 23 7) <<< (8 : Int32)) ||| (fv_ga σ 23 6)) σ
  else if x1 = 1 then
    zX8_at_99 x1 σ
  else if x1 = 2 then
    zX8_at_99 x1 σ
  else if x1 = 3 then
    zX8_at_99 x1 σ
  else if x1 = 4 then
    fv_ri (((fv_ga σ 24 7) <<< (8 : Int32)) ||| (fv_ga σ 24 6)) σ
  else if x1 = 5 then
    zX8_at_128 x1 σ
  else if x1 = 6 then
    zX8_at_128 x1 σ
  else if x1 = 7 then
    zX8_at_128 x1 σ
  else if x1 = 8 then
    if fv_in (x1 - (7 : Int32)) 3 then
      fv_ri (fv_ga σ 25 (x1 - (7 : Int32))) σ
    else none
  else if x1 = 9 then
    if fv_in (x1 - (7 : Int32)) 3 then
      fv_ri (fv_ga σ 25 (x1 - (7 : Int32))) σ
    else none
  else if x1 = 10 then
    fv_ri (fv_gi σ 75) σ
  else if x1 = 11 then
    fv_ri (fv_gi σ 76) σ
  else if x1 = 12 then
    fv_ri (fv_gi σ 72) σ
  else if x1 = 13 then
    fv_ri (fv_gi σ 73) σ
  else if x1 = 14 then
    fv_ri (fv_gi σ 77) σ
  else if x1 = 15 then
    fv_ri (fv_gi σ 78) σ
  else 
    fv_ri (fv_gi σ 79) σ
noncomputable def zX8_register (x1 : Int32) (σ : fv_S) : Option fv_O :=
  if x1 < 0 then
    fv_ri (-1) σ
  else
    if (16 : Int32) < x1 then
      fv_ri (-1) σ
    else
      fv_bi (zX8_at x1 σ) (fun r2 σ1 =>
        fv_ri r2 σ1) fv_no
noncomputable def zX8_setTwo (x1 : Int32) (x2 : Int32) (σ : fv_S) : Option fv_O :=
  if fv_in x1 8 then
    if fv_in (x1 + (1 : Int32)) 8 then
      fv_rv (fv_sa (fv_sa σ 23 x1 ((x2 >>> (8 : Int32)) &&& (255 : Int32))) 23 (x1 + (1 : Int32)) (x2 &&& (255 : Int32)))
    else none
  else none
noncomputable def zX8_set_170 (x1 : Int32) (x2 : Int32) (x4 : Int32) (σ : fv_S) : Option fv_O :=
  fv_bv (zX8_setTwo (((2 : Int32) * x1) - (2 : Int32)) x2 σ) (fun σ1 =>
    fv_ri x4 σ1) fv_no
noncomputable def zX8_set_209 (x1 : Int32) (x2 : Int32) (x4 : Int32) (σ : fv_S) : Option fv_O :=
  if fv_in (((2 : Int32) * x1) - (10 : Int32)) 8 then
    if fv_in (((2 : Int32) * x1) - (9 : Int32)) 8 then
      fv_ri x4 (fv_sa (fv_sa σ 24 (((2 : Int32) * x1) - (10 : Int32)) (x2 >>> (8 : Int32))) 24 (((2 : Int32) * x1) - (9 : Int32)) (x2 &&& (255 : Int32)))
    else none
  else none
noncomputable def zX8_set_243 (x1 : Int32) (x2 : Int32) (x4 : Int32) (σ : fv_S) : Option fv_O :=
  if fv_in (x1 - (7 : Int32)) 3 then
    fv_ri x4 (fv_sa σ 25 (x1 - (7 : Int32)) x2)
  else none
noncomputable def zX8_set_46 (x1 : Int32) (x2 : Int32) (s0 : Int32) (σ : fv_S) : Option fv_O :=
  if x2 < 0 then
    fv_ri (-2) σ
  else
    if x2 ≤ s0 then
      fv_bi (zX8_at x1 σ) (fun r6 σ5 =>
        if x1 = 0 then
          fv_ri r6 (fv_sa (fv_sa σ5 23 7 (x2 >>> (8 : Int32))) 23 6 (x2 &&& (255 : Int32)))
        else if x1 = 1 then
          zX8_set_170 x1 x2 r6 σ5
        else if x1 = 2 then
          zX8_set_170 x1 x2 r6 σ5
        else if x1 = 3 then
          zX8_set_170 x1 x2 r6 σ5
        else if x1 = 4 then
          fv_ri r6 (fv_sa (fv_sa σ5 24 7 (x2 >>> (8 : Int32))) 24 6 (x2 &&& (255 : Int32)))
        else if x1 = 5 then
          zX8_set_209 x1 x2 r6 σ5
        else if x1 = 6 then
          zX8_set_209 x1 x2 r6 σ5
        else if x1 = 7 then
          zX8_set_209 x1 x2 r6 σ5
        else if x1 = 8 then
          zX8_set_243 x1 x2 r6 σ5
        else if x1 = 9 then
          zX8_set_243 x1 x2 r6 σ5
        else if x1 = 10 then
          fv_ri r6 (fv_si σ5 75 x2)
        else if x1 = 11 then
          fv_ri r6 (fv_si σ5 76 x2)
        else if x1 = 12 then
          fv_ri r6 (fv_si σ5 72 x2)
        else if x1 = 13 then
          fv_ri r6 (fv_si σ5 73 x2)
        else if x1 = 14 then
          fv_ri r6 (fv_si σ5 77 x2)
        else if x1 = 15 then
          fv_ri r6 (fv_si σ5 78 x2)
        else 
          fv_ri r6 (fv_si σ5 79 x2)) fv_no
    else
      fv_ri (-2) σ
noncomputable def zX8_set (x1 : Int32) (x2 : Int32) (σ : fv_S) : Option fv_O :=
  if x1 < 0 then
    fv_ri (-1) σ
  else
    if x1 ≤ (16 : Int32) then
      if (12 : Int32) ≤ x1 then
        if (14 : Int32) ≤ x1 then
          if (16 : Int32) ≤ x1 then
            zX8_set_46 x1 x2 2 σ
          else
            zX8_set_46 x1 x2 1 σ
        else
          zX8_set_46 x1 x2 255 σ
      else
        zX8_set_46 x1 x2 65535 σ
    else
      fv_ri (-1) σ
noncomputable def zX8_port (x1 : Int32) (x2 : Int32) (σ : fv_S) : Option fv_O :=
  if x1 < 0 then
    fv_ri (-1) σ
  else
    if x1 ≤ (255 : Int32) then
      if x2 < 0 then
        fv_ri (-2) σ
      else
        if x2 ≤ (255 : Int32) then
          if fv_in x1 256 then
            if fv_in x1 256 then
              fv_ri (fv_ga σ 26 x1) (fv_sa σ 26 x1 x2)
            else none
          else none
        else
          fv_ri (-2) σ
    else
      fv_ri (-1) σ
noncomputable def zX8_out (x1 : Int32) (σ : fv_S) : Option fv_O :=
  if x1 < 0 then
    fv_ri (-1) σ
  else
    if (256 : Int32) ≤ x1 then
      fv_ri (-1) σ
    else
      if fv_in x1 256 then
        fv_ri (fv_ga σ 27 x1) σ
      else none
noncomputable def zX8_request_61 (x3 : Int32) (σ : fv_S) : Option fv_O :=
  if x3 = 0 then
    fv_ri 1 σ
  else
    fv_ri 0 σ
noncomputable def zX8_request_38 (x1 : Int32) (x2 : Int32) (s0 : Int32) (σ : fv_S) : Option fv_O :=
  if ¬ x1 = 0 then
    zX8_request_61 s0 (fv_si σ 82 1)
  else
    zX8_request_61 s0 (fv_si (fv_si σ 83 1) 84 x2)
noncomputable def zX8_request (x1 : Int32) (x2 : Int32) (σ : fv_S) : Option fv_O :=
  if x1 < 0 then
    fv_ri (-2) σ
  else
    if (1 : Int32) < x1 then
      fv_ri (-2) σ
    else
      if x2 < 0 then
        fv_ri (-2) σ
      else
        if x2 ≤ (255 : Int32) then
          if ¬ x1 = 0 then
            zX8_request_38 x1 x2 (fv_gi σ 82) σ
          else
            zX8_request_38 x1 x2 (fv_gi σ 83) σ
        else
          fv_ri (-2) σ
noncomputable def zX8_goOn (x1 : Int32) (σ : fv_S) : Option fv_O :=
  fv_rv (fv_si σ 73 (((fv_gi σ 73) &&& (128 : Int32)) ||| (((fv_gi σ 73) + x1) &&& (127 : Int32))))
noncomputable def zX8_store (x1 : Int32) (x2 : Int32) (σ : fv_S) : Option fv_O :=
  if fv_in (x1 &&& (65535 : Int32)) 65536 then
    fv_rv (fv_sa σ 13 (x1 &&& (65535 : Int32)) (x2 &&& (255 : Int32)))
  else none
noncomputable def zX8_pushTwo (x1 : Int32) (σ : fv_S) : Option fv_O :=
  fv_bv (zX8_store (((fv_gi σ 75) - (2 : Int32)) &&& (65535 : Int32)) x1 (fv_si σ 75 (((fv_gi σ 75) - (2 : Int32)) &&& (65535 : Int32)))) (fun σ1 =>
    fv_bv (zX8_store ((fv_gi σ1 75) + (1 : Int32)) (x1 >>> (8 : Int32)) σ1) (fun σ2 =>
      fv_rv σ2) fv_no) fv_no
noncomputable def zX8_takeRequest_182 (s1 : Int32) (σ : fv_S) : Option fv_O :=
  fv_ri 1 (fv_si σ 76 s1)
noncomputable def zX8_takeRequest_68 (σ : fv_S) : Option fv_O :=
  fv_bv (zX8_goOn 1 σ) (fun σ1 =>
    if (fv_gi σ1 82) = 0 then
      fv_bv (zX8_pushTwo (fv_gi σ1 76) (fv_si (fv_si (fv_si (fv_si σ1 85 0) 83 0) 77 0) 78 0)) (fun σ2 =>
        if ¬ (fv_gi σ2 79) = 0 then
          if ¬ (fv_gi σ2 79) = (1 : Int32) then
            fv_bi (zX8_wide (((256 : Int32) * (fv_gi σ2 72)) + (fv_gi σ2 84)) σ2) (fun r4 σ3 =>
              zX8_takeRequest_182 r4 σ3) fv_no
          else
            zX8_takeRequest_182 56 σ2
        else
          zX8_takeRequest_182 ((fv_gi σ2 84) &&& (56 : Int32)) σ2) fv_no
    else
      fv_bv (zX8_pushTwo (fv_gi σ1 76) (fv_si (fv_si (fv_si σ1 85 0) 82 0) 77 0)) (fun σ5 =>
        fv_ri 1 (fv_si σ5 76 102)) fv_no) fv_no
noncomputable def zX8_takeRequest_41 (σ : fv_S) : Option fv_O :=
  if fv_in (fv_gi σ 76) 65536 then
    if ¬ (fv_ga σ 13 (fv_gi σ 76)) = (118 : Int32) then
      zX8_takeRequest_68 σ
    else
      zX8_takeRequest_68 (fv_si σ 76 (((fv_gi σ 76) + (1 : Int32)) &&& (65535 : Int32)))
  else none
noncomputable def zX8_takeRequest_27 (s0 : Int32) (σ : fv_S) : Option fv_O :=
  if ¬ (fv_gi σ 82) = 0 then
    zX8_takeRequest_41 σ
  else
    if ¬ s0 = 0 then
      zX8_takeRequest_41 σ
    else
      fv_ri 0 σ
noncomputable def zX8_takeRequest_26 (σ : fv_S) : Option fv_O :=
  zX8_takeRequest_27 0 σ
noncomputable def zX8_takeRequest (σ : fv_S) : Option fv_O :=
  if (fv_gi σ 83) = 0 then
    zX8_takeRequest_26 σ
  else
    if ¬ (fv_gi σ 77) = (1 : Int32) then
      zX8_takeRequest_26 σ
    else
      if ¬ (fv_gi σ 85) = 0 then
        zX8_takeRequest_26 σ
      else
        zX8_takeRequest_27 1 σ
noncomputable def zX8_placeAt (σ : fv_S) : Option fv_O :=
  if ¬ (fv_gi σ 60) = 0 then
    if fv_in (fv_gi σ 60) 3 then
      fv_ri (((fv_ga σ 25 (fv_gi σ 60)) + (fv_gi σ 62)) &&& (65535 : Int32)) σ
    else none
  else
    fv_bi (zX8_two 4 σ) (fun r3 σ2 =>
      fv_ri r3 σ2) fv_no
noncomputable def zX8_octetAt (x1 : Int32) (σ : fv_S) : Option fv_O :=
  if ¬ x1 = (6 : Int32) then
    if fv_in x1 8 then
      fv_ri (fv_ga σ 23 x1) σ
    else none
  else
    fv_bi (zX8_placeAt σ) (fun r3 σ2 =>
      fv_bi (zX8_peek r3 σ2) (fun r5 σ4 =>
        fv_ri r5 σ4) fv_no) fv_no
noncomputable def zX8_setOctet (x1 : Int32) (x2 : Int32) (σ : fv_S) : Option fv_O :=
  if ¬ x1 = (6 : Int32) then
    if fv_in x1 8 then
      fv_rv (fv_sa σ 23 x1 (x2 &&& (255 : Int32)))
    else none
  else
    fv_bi (zX8_placeAt σ) (fun r3 σ2 =>
      fv_bv (zX8_store r3 x2 σ2) (fun σ4 =>
        fv_rv σ4) fv_no) fv_no
noncomputable def zX8_signs (x1 : Int32) (σ : fv_S) : Option fv_O :=
  if ¬ x1 = 0 then
    fv_ri ((x1 &&& (168 : Int32)) ||| (0 : Int32)) σ
  else
    fv_ri ((x1 &&& (168 : Int32)) ||| (64 : Int32)) σ
noncomputable def zX8_parity (x1 : Int32) (σ : fv_S) : Option fv_O :=
  if ¬ ((((x1 ^^^ (x1 >>> (4 : Int32))) ^^^ ((x1 ^^^ (x1 >>> (4 : Int32))) >>> (2 : Int32))) ^^^ (((x1 ^^^ (x1 >>> (4 : Int32))) ^^^ ((x1 ^^^ (x1 >>> (4 : Int32))) >>> (2 : Int32))) >>> (1 : Int32))) &&& (1 : Int32)) = 0 then
    fv_ri 0 σ
  else
    fv_ri 4 σ
noncomputable def zX8_turned_147 (x4 : Int32) (x5 : Int32) (σ : fv_S) : Option fv_O :=
  fv_bi (zX8_signs (x5 &&& (255 : Int32)) σ) (fun r2 σ1 =>
    fv_bi (zX8_parity (x5 &&& (255 : Int32)) σ1) (fun r4 σ3 =>
      fv_ri (x5 &&& (255 : Int32)) (fv_sa σ3 23 6 ((r2 ||| r4) ||| x4))) fv_no) fv_no
noncomputable def zX8_turned_26 (x1 : Int32) (x2 : Int32) (x3 : Int32) (s0 : Int32) (σ : fv_S) : Option fv_O :=
  if x1 = 0 then
    zX8_turned_147 s0 ((x2 <<< (1 : Int32)) ||| s0) σ
  else if x1 = 1 then
    zX8_turned_147 s0 ((x2 >>> (1 : Int32)) ||| (s0 <<< (7 : Int32))) σ
  else if x1 = 2 then
    zX8_turned_147 s0 ((x2 <<< (1 : Int32)) ||| x3) σ
  else if x1 = 3 then
    zX8_turned_147 s0 ((x2 >>> (1 : Int32)) ||| (x3 <<< (7 : Int32))) σ
  else if x1 = 4 then
    zX8_turned_147 s0 (x2 <<< (1 : Int32)) σ
  else if x1 = 5 then
    zX8_turned_147 s0 ((x2 >>> (1 : Int32)) ||| (x2 &&& (128 : Int32))) σ
  else 
    zX8_turned_147 s0 (x2 >>> (1 : Int32)) σ
noncomputable def zX8_turned (x1 : Int32) (x2 : Int32) (σ : fv_S) : Option fv_O :=
  if ¬ (x1 &&& (1 : Int32)) = 0 then
    zX8_turned_26 x1 x2 ((fv_ga σ 23 6) &&& (1 : Int32)) (x2 &&& (1 : Int32)) σ
  else
    zX8_turned_26 x1 x2 ((fv_ga σ 23 6) &&& (1 : Int32)) (x2 >>> (7 : Int32)) σ
noncomputable def zX8_do203_139 (s1 : Int32) (s2 : Int32) (s3 : Int32) (σ : fv_S) : Option fv_O :=
  if fv_in s1 8 then
    fv_rv (fv_sa σ 23 s1 (s2 ||| s3))
  else none
noncomputable def zX8_do203_138 (s1 : Int32) (s2 : Int32) (σ : fv_S) : Option fv_O :=
  zX8_do203_139 s1 s2 0 σ
noncomputable def zX8_do203_120 (x1 : Int32) (x4 : Int32) (s1 : Int32) (s2 : Int32) (s3 : Int32) (σ : fv_S) : Option fv_O :=
  if x4 = 0 then
    zX8_do203_138 s1 (s2 ||| s3) σ
  else
    if ¬ x1 = (7 : Int32) then
      zX8_do203_138 s1 (s2 ||| s3) σ
    else
      zX8_do203_139 s1 (s2 ||| s3) 128 σ
noncomputable def zX8_do203_84 (x1 : Int32) (x3 : Int32) (s0 : Int32) (σ : fv_S) : Option fv_O :=
  if s0 = 0 then
    zX8_do203_120 x1 s0 6 ((((fv_ga σ 23 6) &&& (1 : Int32)) ||| (16 : Int32)) ||| (x3 &&& (40 : Int32))) 68 σ
  else
    zX8_do203_120 x1 s0 6 ((((fv_ga σ 23 6) &&& (1 : Int32)) ||| (16 : Int32)) ||| (x3 &&& (40 : Int32))) 0 σ
noncomputable def zX8_do203 (σ : fv_S) : Option fv_O :=
  fv_bi (zX8_octetAt ((fv_gi σ 61) &&& (7 : Int32)) σ) (fun r3 σ2 =>
    if ((fv_gi σ2 61) >>> (6 : Int32)) = 0 then
      fv_bi (zX8_turned (((fv_gi σ 61) >>> (3 : Int32)) &&& (7 : Int32)) r3 σ2) (fun r5 σ4 =>
        fv_bv (zX8_setOctet ((fv_gi σ 61) &&& (7 : Int32)) r5 σ4) (fun σ6 =>
          fv_rv σ6) fv_no) fv_no
    else if ((fv_gi σ2 61) >>> (6 : Int32)) = 1 then
      if ¬ ((r3 >>> ((((fv_gi σ 61) >>> (3 : Int32)) &&& (7 : Int32)) &&& (31 : Int32))) &&& (1 : Int32)) = (1 : Int32) then
        zX8_do203_84 (((fv_gi σ 61) >>> (3 : Int32)) &&& (7 : Int32)) r3 0 σ2
      else
        zX8_do203_84 (((fv_gi σ 61) >>> (3 : Int32)) &&& (7 : Int32)) r3 1 σ2
    else if ((fv_gi σ2 61) >>> (6 : Int32)) = 2 then
      fv_bv (zX8_setOctet ((fv_gi σ 61) &&& (7 : Int32)) (r3 &&& (((1 : Int32) <<< ((((fv_gi σ 61) >>> (3 : Int32)) &&& (7 : Int32)) &&& (31 : Int32))) ^^^ ((-1) : Int32))) σ2) (fun σ7 =>
        fv_rv σ7) fv_no
    else 
      fv_bv (zX8_setOctet ((fv_gi σ 61) &&& (7 : Int32)) (r3 ||| ((1 : Int32) <<< ((((fv_gi σ 61) >>> (3 : Int32)) &&& (7 : Int32)) &&& (31 : Int32)))) σ2) (fun σ8 =>
        fv_rv σ8) fv_no) fv_no
noncomputable def zX8_outPort (x1 : Int32) (x2 : Int32) (σ : fv_S) : Option fv_O :=
  if fv_in (x1 &&& (255 : Int32)) 256 then
    fv_rv (fv_sl (fv_sa σ 27 (x1 &&& (255 : Int32)) (x2 &&& (255 : Int32))) 86 ((fv_gl σ 86) + (1 : Int64)))
  else none
noncomputable def zX8_portFlags_36 (x2 : Int32) (s1 : Int32) (s2 : Int32) (s3 : Int32) (σ : fv_S) : Option fv_O :=
  fv_bi (zX8_parity ((x2 &&& (7 : Int32)) ^^^ (fv_ga σ 23 0)) σ) (fun r2 σ1 =>
    if fv_in s1 8 then
      fv_rv (fv_sa σ1 23 s1 ((s2 ||| s3) ||| r2))
    else none) fv_no
noncomputable def zX8_portFlags (x1 : Int32) (x2 : Int32) (σ : fv_S) : Option fv_O :=
  fv_bi (zX8_signs (fv_ga σ 23 0) σ) (fun r5 σ4 =>
    if x2 ≤ (255 : Int32) then
      zX8_portFlags_36 x2 6 (r5 ||| ((x1 >>> (6 : Int32)) &&& (2 : Int32))) 0 σ4
    else
      zX8_portFlags_36 x2 6 (r5 ||| ((x1 >>> (6 : Int32)) &&& (2 : Int32))) 17 σ4) fv_no
noncomputable def zX8_difference (x1 : Int32) (x2 : Int32) (x3 : Int32) (σ : fv_S) : Option fv_O :=
  fv_bi (zX8_signs (((x1 - x2) - x3) &&& (255 : Int32)) σ) (fun r2 σ1 =>
    fv_ri (((x1 - x2) - x3) &&& (255 : Int32)) (fv_sa σ1 23 6 ((((r2 ||| (((x1 ^^^ x2) ^^^ (((x1 - x2) - x3) &&& (255 : Int32))) &&& (16 : Int32))) ||| ((((x1 ^^^ x2) &&& (x1 ^^^ (((x1 - x2) - x3) &&& (255 : Int32)))) &&& (128 : Int32)) >>> (5 : Int32))) ||| (2 : Int32)) ||| ((((x1 - x2) - x3) >>> (8 : Int32)) &&& (1 : Int32))))) fv_no
noncomputable def zX8_doBlock_504 (x1 : Int32) (x3 : Int32) (x6 : Int32) (σ : fv_S) : Option fv_O :=
  if x1 ≤ (5 : Int32) then
    fv_rv σ
  else
    if x6 = 0 then
      fv_rv σ
    else
      fv_rv (fv_si σ 76 x3)
noncomputable def zX8_doBlock_176 (x1 : Int32) (x3 : Int32) (s0 : Int32) (σ : fv_S) : Option fv_O :=
  zX8_doBlock_504 x1 x3 s0 σ
noncomputable def zX8_doBlock_148 (x1 : Int32) (x3 : Int32) (x8 : Int32) (s1 : Int32) (s2 : Int32) (s3 : Int32) (σ : fv_S) : Option fv_O :=
  if fv_in s1 8 then
    fv_bi (zX8_two 0 (fv_sa σ 23 s1 (((s2 ||| s3) ||| (x8 &&& (8 : Int32))) ||| ((x8 &&& (2 : Int32)) <<< (4 : Int32))))) (fun r3 σ2 =>
      if r3 = 0 then
        zX8_doBlock_176 x1 x3 0 σ2
      else
        zX8_doBlock_176 x1 x3 1 σ2) fv_no
  else none
noncomputable def zX8_doBlock_330 (x1 : Int32) (x3 : Int32) (s0 : Int32) (σ : fv_S) : Option fv_O :=
  zX8_doBlock_504 x1 x3 s0 σ
noncomputable def zX8_doBlock_329 (x1 : Int32) (x3 : Int32) (σ : fv_S) : Option fv_O :=
  zX8_doBlock_330 x1 x3 0 σ
noncomputable def zX8_doBlock_289 (x1 : Int32) (x3 : Int32) (x12 : Int32) (s1 : Int32) (s2 : Int32) (s3 : Int32) (σ : fv_S) : Option fv_O :=
  if fv_in s1 8 then
    fv_bi (zX8_two 0 (fv_sa σ 23 s1 (((s2 ||| s3) ||| (x12 &&& (8 : Int32))) ||| ((x12 &&& (2 : Int32)) <<< (4 : Int32))))) (fun r6 σ5 =>
      if r6 = 0 then
        zX8_doBlock_329 x1 x3 σ5
      else
        if ¬ ((fv_ga σ5 23 6) &&& (64 : Int32)) = 0 then
          zX8_doBlock_329 x1 x3 σ5
        else
          zX8_doBlock_330 x1 x3 1 σ5) fv_no
  else none
noncomputable def zX8_doBlock_420 (x1 : Int32) (x3 : Int32) (s0 : Int32) (σ : fv_S) : Option fv_O :=
  zX8_doBlock_504 x1 x3 s0 σ
noncomputable def zX8_doBlock_502 (x1 : Int32) (x3 : Int32) (s0 : Int32) (σ : fv_S) : Option fv_O :=
  zX8_doBlock_504 x1 x3 s0 σ
noncomputable def zX8_doBlock_11 (x1 : Int32) (x2 : Int32) (x3 : Int32) (s0 : Int32) (σ : fv_S) : Option fv_O :=
  fv_bi (zX8_two 4 σ) (fun r8 σ7 =>
    if x2 = 0 then
      fv_bi (zX8_peek r8 σ7) (fun r10 σ9 =>
        fv_bi (zX8_two 2 σ9) (fun r12 σ11 =>
          fv_bv (zX8_store r12 r10 σ11) (fun σ13 =>
            fv_bv (zX8_setTwo 4 (r8 + s0) σ13) (fun σ14 =>
              fv_bi (zX8_two 2 σ14) (fun r16 σ15 =>
                fv_bv (zX8_setTwo 2 (r16 + s0) σ15) (fun σ17 =>
                  fv_bi (zX8_two 0 σ17) (fun r19 σ18 =>
                    fv_bv (zX8_setTwo 0 (r19 - (1 : Int32)) σ18) (fun σ20 =>
                      fv_bi (zX8_two 0 σ20) (fun r22 σ21 =>
                        if r22 = 0 then
                          zX8_doBlock_148 x1 x3 (r10 + (fv_ga σ20 23 7)) 6 ((fv_ga σ20 23 6) &&& (193 : Int32)) 0 σ21
                        else
                          zX8_doBlock_148 x1 x3 (r10 + (fv_ga σ20 23 7)) 6 ((fv_ga σ20 23 6) &&& (193 : Int32)) 4 σ21) fv_no) fv_no) fv_no) fv_no) fv_no) fv_no) fv_no) fv_no) fv_no
    else if x2 = 1 then
      fv_bi (zX8_peek r8 σ7) (fun r24 σ23 =>
        fv_bi (zX8_difference (fv_ga σ23 23 7) r24 0 σ23) (fun r26 σ25 =>
          fv_bv (zX8_setTwo 4 (r8 + s0) σ25) (fun σ27 =>
            fv_bi (zX8_two 0 σ27) (fun r29 σ28 =>
              fv_bv (zX8_setTwo 0 (r29 - (1 : Int32)) σ28) (fun σ30 =>
                fv_bi (zX8_two 0 σ30) (fun r32 σ31 =>
                  if r32 = 0 then
                    zX8_doBlock_289 x1 x3 (r26 - (((fv_ga σ30 23 6) >>> (4 : Int32)) &&& (1 : Int32))) 6 ((((fv_ga σ30 23 6) &&& (208 : Int32)) ||| (2 : Int32)) ||| ((fv_ga σ23 23 6) &&& (1 : Int32))) 0 σ31
                  else
                    zX8_doBlock_289 x1 x3 (r26 - (((fv_ga σ30 23 6) >>> (4 : Int32)) &&& (1 : Int32))) 6 ((((fv_ga σ30 23 6) &&& (208 : Int32)) ||| (2 : Int32)) ||| ((fv_ga σ23 23 6) &&& (1 : Int32))) 4 σ31) fv_no) fv_no) fv_no) fv_no) fv_no) fv_no
    else if x2 = 2 then
      if fv_in (fv_ga σ7 23 1) 256 then
        fv_bv (zX8_store r8 (fv_ga σ7 26 (fv_ga σ7 23 1)) σ7) (fun σ34 =>
          fv_bv (zX8_setTwo 4 (r8 + s0) σ34) (fun σ35 =>
            fv_bv (zX8_portFlags (fv_ga σ7 26 (fv_ga σ7 23 1)) ((fv_ga σ7 26 (fv_ga σ7 23 1)) + (((fv_ga σ35 23 1) + s0) &&& (255 : Int32))) (fv_sa σ35 23 0 (((fv_ga σ35 23 0) - (1 : Int32)) &&& (255 : Int32)))) (fun σ36 =>
              if (fv_ga σ36 23 0) = 0 then
                zX8_doBlock_420 x1 x3 0 σ36
              else
                zX8_doBlock_420 x1 x3 1 σ36) fv_no) fv_no) fv_no
      else none
    else 
      fv_bi (zX8_peek r8 σ7) (fun r38 σ37 =>
        fv_bv (zX8_outPort (fv_ga σ37 23 1) r38 (fv_sa σ37 23 0 (((fv_ga σ37 23 0) - (1 : Int32)) &&& (255 : Int32)))) (fun σ39 =>
          fv_bv (zX8_setTwo 4 (r8 + s0) σ39) (fun σ40 =>
            fv_bv (zX8_portFlags r38 (r38 + (fv_ga σ40 23 5)) σ40) (fun σ41 =>
              if (fv_ga σ41 23 0) = 0 then
                zX8_doBlock_502 x1 x3 0 σ41
              else
                zX8_doBlock_502 x1 x3 1 σ41) fv_no) fv_no) fv_no) fv_no) fv_no
noncomputable def zX8_doBlock (x1 : Int32) (x2 : Int32) (x3 : Int32) (σ : fv_S) : Option fv_O :=
  if ¬ (x1 &&& (1 : Int32)) = 0 then
    zX8_doBlock_11 x1 x2 x3 (-1) σ
  else
    zX8_doBlock_11 x1 x2 x3 1 σ
noncomputable def zX8_doHalves_123 (s1 : Int32) (s2 : Int32) (s3 : Int32) (σ : fv_S) : Option fv_O :=
  if fv_in s1 8 then
    fv_rv (fv_sa σ 23 s1 (s2 ||| s3))
  else none
noncomputable def zX8_doHalves_82 (s1 : Int32) (s2 : Int32) (σ : fv_S) : Option fv_O :=
  if fv_in s1 8 then
    fv_bi (zX8_signs (fv_ga (fv_sa σ 23 s1 s2) 23 7) (fv_sa σ 23 s1 s2)) (fun r4 σ3 =>
      if ¬ (fv_gi σ3 78) = (1 : Int32) then
        zX8_doHalves_123 6 (((fv_ga (fv_sa σ 23 s1 s2) 23 6) &&& (1 : Int32)) ||| r4) 0 σ3
      else
        zX8_doHalves_123 6 (((fv_ga (fv_sa σ 23 s1 s2) 23 6) &&& (1 : Int32)) ||| r4) 4 σ3) fv_no
  else none
noncomputable def zX8_doHalves_60 (x1 : Int32) (σ : fv_S) : Option fv_O :=
  if ¬ x1 = (2 : Int32) then
    zX8_doHalves_82 7 (fv_gi σ 73) σ
  else
    zX8_doHalves_82 7 (fv_gi σ 72) σ
noncomputable def zX8_doHalves_232 (σ : fv_S) : Option fv_O :=
  fv_bi (zX8_signs (fv_ga σ 23 7) σ) (fun r6 σ5 =>
    fv_bi (zX8_parity (fv_ga σ5 23 7) σ5) (fun r8 σ7 =>
      fv_rv (fv_sa σ7 23 6 ((((fv_ga σ 23 6) &&& (1 : Int32)) ||| r6) ||| r8))) fv_no) fv_no
noncomputable def zX8_doHalves (x1 : Int32) (σ : fv_S) : Option fv_O :=
  if x1 = 0 then
    fv_rv (fv_si σ 72 (fv_ga σ 23 7))
  else if x1 = 1 then
    fv_rv (fv_si σ 73 (fv_ga σ 23 7))
  else if x1 = 2 then
    zX8_doHalves_60 x1 σ
  else if x1 = 3 then
    zX8_doHalves_60 x1 σ
  else 
    fv_bi (zX8_two 4 σ) (fun r10 σ9 =>
      fv_bi (zX8_peek r10 σ9) (fun r12 σ11 =>
        if ¬ x1 = (5 : Int32) then
          fv_bi (zX8_two 4 σ11) (fun r14 σ13 =>
            fv_bv (zX8_store r14 ((r12 >>> (4 : Int32)) ||| (((fv_ga σ11 23 7) &&& (15 : Int32)) <<< (4 : Int32))) σ13) (fun σ15 =>
              zX8_doHalves_232 (fv_sa σ15 23 7 (((fv_ga σ15 23 7) &&& (240 : Int32)) ||| (r12 &&& (15 : Int32))))) fv_no) fv_no
        else
          fv_bi (zX8_two 4 σ11) (fun r17 σ16 =>
            fv_bv (zX8_store r17 ((r12 <<< (4 : Int32)) ||| ((fv_ga σ11 23 7) &&& (15 : Int32))) σ16) (fun σ18 =>
              zX8_doHalves_232 (fv_sa σ18 23 7 (((fv_ga σ18 23 7) &&& (240 : Int32)) ||| (r12 >>> (4 : Int32))))) fv_no) fv_no) fv_no) fv_no
noncomputable def zX8_popTwo (σ : fv_S) : Option fv_O :=
  fv_bi (zX8_wide (fv_gi σ 75) σ) (fun r2 σ1 =>
    fv_ri r2 (fv_si σ1 75 (((fv_gi σ1 75) + (2 : Int32)) &&& (65535 : Int32)))) fv_no
noncomputable def zX8_setBase (x1 : Int32) (σ : fv_S) : Option fv_O :=
  if ¬ (fv_gi σ 60) = 0 then
    if fv_in (fv_gi σ 60) 3 then
      fv_rv (fv_sa σ 25 (fv_gi σ 60) (x1 &&& (65535 : Int32)))
    else none
  else
    fv_bv (zX8_setTwo 4 x1 σ) (fun σ2 =>
      fv_rv σ2) fv_no
noncomputable def zX8_setPair (x1 : Int32) (x2 : Int32) (σ : fv_S) : Option fv_O :=
  if ¬ x1 = (2 : Int32) then
    if ¬ x1 = (3 : Int32) then
      fv_bv (zX8_setTwo ((2 : Int32) * x1) x2 σ) (fun σ1 =>
        fv_rv σ1) fv_no
    else
      fv_rv (fv_si σ 75 (x2 &&& (65535 : Int32)))
  else
    fv_bv (zX8_setBase x2 σ) (fun σ2 =>
      fv_rv σ2) fv_no
noncomputable def zX8_base (σ : fv_S) : Option fv_O :=
  if ¬ (fv_gi σ 60) = 0 then
    if fv_in (fv_gi σ 60) 3 then
      fv_ri (fv_ga σ 25 (fv_gi σ 60)) σ
    else none
  else
    fv_bi (zX8_two 4 σ) (fun r3 σ2 =>
      fv_ri r3 σ2) fv_no
noncomputable def zX8_pairAt (x1 : Int32) (σ : fv_S) : Option fv_O :=
  if ¬ x1 = (2 : Int32) then
    if ¬ x1 = (3 : Int32) then
      fv_bi (zX8_two ((2 : Int32) * x1) σ) (fun r2 σ1 =>
        fv_ri r2 σ1) fv_no
    else
      fv_ri (fv_gi σ 75) σ
  else
    fv_bi (zX8_base σ) (fun r4 σ3 =>
      fv_ri r4 σ3) fv_no
noncomputable def zX8_wideSum_135 (x5 : Int32) (x6 : Int32) (s1 : Int32) (s2 : Int32) (s3 : Int32) (σ : fv_S) : Option fv_O :=
  if fv_in s1 8 then
    fv_bv (zX8_setTwo 4 x6 (fv_sa σ 23 s1 ((s2 ||| s3) ||| ((x5 >>> (16 : Int32)) &&& (1 : Int32))))) (fun σ2 =>
      fv_rv σ2) fv_no
  else none
noncomputable def zX8_wideSum_106 (x1 : Int32) (x2 : Int32) (x3 : Int32) (x5 : Int32) (x6 : Int32) (x7 : Int32) (s1 : Int32) (s2 : Int32) (s3 : Int32) (σ : fv_S) : Option fv_O :=
  if x2 = 0 then
    zX8_wideSum_135 x5 x6 s1 (((s2 ||| s3) ||| ((((x3 ^^^ x1) ^^^ x6) >>> (8 : Int32)) &&& (16 : Int32))) ||| (x7 >>> (13 : Int32))) 2 σ
  else
    zX8_wideSum_135 x5 x6 s1 (((s2 ||| s3) ||| ((((x3 ^^^ x1) ^^^ x6) >>> (8 : Int32)) &&& (16 : Int32))) ||| (x7 >>> (13 : Int32))) 0 σ
noncomputable def zX8_wideSum_78 (x1 : Int32) (x2 : Int32) (x3 : Int32) (x5 : Int32) (x6 : Int32) (s0 : Int32) (σ : fv_S) : Option fv_O :=
  if ¬ x6 = 0 then
    zX8_wideSum_106 x1 x2 x3 x5 x6 s0 6 ((x6 >>> (8 : Int32)) &&& (168 : Int32)) 0 σ
  else
    zX8_wideSum_106 x1 x2 x3 x5 x6 s0 6 ((x6 >>> (8 : Int32)) &&& (168 : Int32)) 64 σ
noncomputable def zX8_wideSum_36 (x1 : Int32) (x2 : Int32) (x3 : Int32) (s0 : Int32) (σ : fv_S) : Option fv_O :=
  if x2 = 0 then
    zX8_wideSum_78 x1 x2 x3 s0 (s0 &&& (65535 : Int32)) (((x3 ^^^ x1) &&& (x3 ^^^ (s0 &&& (65535 : Int32)))) &&& (32768 : Int32)) σ
  else
    zX8_wideSum_78 x1 x2 x3 s0 (s0 &&& (65535 : Int32)) (((x3 ^^^ (x1 ^^^ ((-1) : Int32))) &&& (x3 ^^^ (s0 &&& (65535 : Int32)))) &&& (32768 : Int32)) σ
noncomputable def zX8_wideSum (x1 : Int32) (x2 : Int32) (σ : fv_S) : Option fv_O :=
  fv_bi (zX8_two 4 σ) (fun r4 σ3 =>
    if x2 = 0 then
      zX8_wideSum_36 x1 x2 r4 ((r4 - x1) - ((fv_ga σ3 23 6) &&& (1 : Int32))) σ3
    else
      zX8_wideSum_36 x1 x2 r4 ((r4 + x1) + ((fv_ga σ3 23 6) &&& (1 : Int32))) σ3) fv_no
noncomputable def zX8_do237_305 (s1 : Int32) (σ : fv_S) : Option fv_O :=
  fv_rv (fv_si σ 79 s1)
noncomputable def zX8_do237_26 (x1 : Int32) (x2 : Int32) (x3 : Int32) (s0 : Int32) (σ : fv_S) : Option fv_O :=
  if ¬ ((fv_gi σ 61) >>> (6 : Int32)) = (2 : Int32) then
    if ((fv_gi σ 61) &&& (7 : Int32)) = 0 then
      if fv_in (fv_ga σ 23 1) 256 then
        if fv_in x2 8 then
          fv_bi (zX8_signs (fv_ga σ 26 (fv_ga σ 23 1)) (fv_sa σ 23 x2 (fv_ga σ 26 (fv_ga σ 23 1)))) (fun r4 σ3 =>
            fv_bi (zX8_parity (fv_ga σ 26 (fv_ga σ 23 1)) σ3) (fun r6 σ5 =>
              fv_rv (fv_sa σ5 23 6 ((((fv_ga (fv_sa σ 23 x2 (fv_ga σ 26 (fv_ga σ 23 1))) 23 6) &&& (1 : Int32)) ||| r4) ||| r6))) fv_no) fv_no
        else none
      else none
    else if ((fv_gi σ 61) &&& (7 : Int32)) = 1 then
      if fv_in x2 8 then
        fv_bv (zX8_outPort (fv_ga σ 23 1) (fv_ga σ 23 x2) σ) (fun σ8 =>
          fv_rv σ8) fv_no
      else none
    else if ((fv_gi σ 61) &&& (7 : Int32)) = 2 then
      fv_bi (zX8_pairAt x3 σ) (fun r10 σ9 =>
        fv_bv (zX8_wideSum r10 s0 σ9) (fun σ11 =>
          fv_rv σ11) fv_no) fv_no
    else if ((fv_gi σ 61) &&& (7 : Int32)) = 3 then
      fv_bi (zX8_wide (fv_gi σ 64) σ) (fun r13 σ12 =>
        if s0 = 0 then
          fv_bi (zX8_pairAt x3 σ12) (fun r15 σ14 =>
            fv_bv (zX8_store r13 r15 σ14) (fun σ16 =>
              fv_bv (zX8_store (r13 + (1 : Int32)) (r15 >>> (8 : Int32)) σ16) (fun σ17 =>
                fv_rv σ17) fv_no) fv_no) fv_no
        else
          fv_bi (zX8_wide r13 σ12) (fun r19 σ18 =>
            fv_bv (zX8_setPair x3 r19 σ18) (fun σ20 =>
              fv_rv σ20) fv_no) fv_no) fv_no
    else if ((fv_gi σ 61) &&& (7 : Int32)) = 4 then
      fv_bi (zX8_difference 0 (fv_ga σ 23 7) 0 σ) (fun r22 σ21 =>
        fv_rv (fv_sa σ21 23 7 r22)) fv_no
    else if ((fv_gi σ 61) &&& (7 : Int32)) = 5 then
      fv_bi (zX8_popTwo σ) (fun r24 σ23 =>
        fv_rv (fv_si (fv_si σ23 76 r24) 77 (fv_gi σ23 78))) fv_no
    else if ((fv_gi σ 61) &&& (7 : Int32)) = 6 then
      if ¬ x2 = 0 then
        zX8_do237_305 (x2 - (1 : Int32)) σ
      else
        zX8_do237_305 0 σ
    else 
      fv_bv (zX8_doHalves x2 σ) (fun σ25 =>
        fv_rv σ25) fv_no
  else
    fv_bv (zX8_doBlock x2 ((fv_gi σ 61) &&& (7 : Int32)) x1 σ) (fun σ26 =>
      fv_rv σ26) fv_no
noncomputable def zX8_do237 (x1 : Int32) (σ : fv_S) : Option fv_O :=
  if ¬ ((((fv_gi σ 61) >>> (3 : Int32)) &&& (7 : Int32)) &&& (1 : Int32)) = (1 : Int32) then
    zX8_do237_26 x1 (((fv_gi σ 61) >>> (3 : Int32)) &&& (7 : Int32)) ((((fv_gi σ 61) >>> (3 : Int32)) &&& (7 : Int32)) >>> (1 : Int32)) 0 σ
  else
    zX8_do237_26 x1 (((fv_gi σ 61) >>> (3 : Int32)) &&& (7 : Int32)) ((((fv_gi σ 61) >>> (3 : Int32)) &&& (7 : Int32)) >>> (1 : Int32)) 1 σ
noncomputable def zX8_adjust_209 (s1 : Int32) (s2 : Int32) (s3 : Int32) (σ : fv_S) : Option fv_O :=
  if fv_in s1 8 then
    fv_rv (fv_sa σ 23 s1 (s2 ||| s3))
  else none
noncomputable def zX8_adjust_197 (x7 : Int32) (s1 : Int32) (s2 : Int32) (s3 : Int32) (σ : fv_S) : Option fv_O :=
  if x7 = 0 then
    zX8_adjust_209 s1 (s2 ||| s3) 0 σ
  else
    zX8_adjust_209 s1 (s2 ||| s3) 16 σ
noncomputable def zX8_adjust_149 (x2 : Int32) (x4 : Int32) (x7 : Int32) (s1 : Int32) (s2 : Int32) (σ : fv_S) : Option fv_O :=
  if fv_in s1 8 then
    fv_bi (zX8_signs (fv_ga (fv_sa σ 23 s1 (s2 &&& (255 : Int32))) 23 7) (fv_sa σ 23 s1 (s2 &&& (255 : Int32)))) (fun r4 σ3 =>
      fv_bi (zX8_parity (fv_ga σ3 23 7) σ3) (fun r6 σ5 =>
        if x4 = 0 then
          zX8_adjust_197 x7 6 ((r4 ||| r6) ||| (x2 &&& (2 : Int32))) 0 σ5
        else
          zX8_adjust_197 x7 6 ((r4 ||| r6) ||| (x2 &&& (2 : Int32))) 1 σ5) fv_no) fv_no
  else none
noncomputable def zX8_adjust_125 (x1 : Int32) (x2 : Int32) (x4 : Int32) (x5 : Int32) (x6 : Int32) (s0 : Int32) (σ : fv_S) : Option fv_O :=
  if x6 = 0 then
    zX8_adjust_149 x2 x4 s0 7 (x1 + x5) σ
  else
    zX8_adjust_149 x2 x4 s0 7 (x1 - x5) σ
noncomputable def zX8_adjust_110 (x1 : Int32) (x2 : Int32) (x4 : Int32) (x5 : Int32) (x6 : Int32) (σ : fv_S) : Option fv_O :=
  zX8_adjust_125 x1 x2 x4 x5 x6 0 σ
noncomputable def zX8_adjust_86 (x1 : Int32) (x2 : Int32) (x3 : Int32) (x4 : Int32) (x5 : Int32) (s0 : Int32) (σ : fv_S) : Option fv_O :=
  if s0 = 0 then
    if x3 ≤ (9 : Int32) then
      zX8_adjust_125 x1 x2 x4 x5 s0 0 σ
    else
      zX8_adjust_125 x1 x2 x4 x5 s0 1 σ
  else
    if (x2 &&& (16 : Int32)) = 0 then
      zX8_adjust_110 x1 x2 x4 x5 s0 σ
    else
      if (6 : Int32) ≤ x3 then
        zX8_adjust_110 x1 x2 x4 x5 s0 σ
      else
        zX8_adjust_125 x1 x2 x4 x5 s0 1 σ
noncomputable def zX8_adjust_72 (x1 : Int32) (x2 : Int32) (x3 : Int32) (x4 : Int32) (s0 : Int32) (s1 : Int32) (σ : fv_S) : Option fv_O :=
  if (x2 &&& (2 : Int32)) = 0 then
    zX8_adjust_86 x1 x2 x3 x4 (s0 + s1) 0 σ
  else
    zX8_adjust_86 x1 x2 x3 x4 (s0 + s1) 1 σ
noncomputable def zX8_adjust_61 (x1 : Int32) (x2 : Int32) (x3 : Int32) (x4 : Int32) (s0 : Int32) (σ : fv_S) : Option fv_O :=
  if x4 = 0 then
    zX8_adjust_72 x1 x2 x3 x4 s0 0 σ
  else
    zX8_adjust_72 x1 x2 x3 x4 s0 96 σ
noncomputable def zX8_adjust_55 (x1 : Int32) (x2 : Int32) (x3 : Int32) (x4 : Int32) (σ : fv_S) : Option fv_O :=
  zX8_adjust_61 x1 x2 x3 x4 6 σ
noncomputable def zX8_adjust_40 (x1 : Int32) (x2 : Int32) (x3 : Int32) (s0 : Int32) (σ : fv_S) : Option fv_O :=
  if ¬ (x2 &&& (16 : Int32)) = 0 then
    zX8_adjust_55 x1 x2 x3 s0 σ
  else
    if x3 ≤ (9 : Int32) then
      zX8_adjust_61 x1 x2 x3 s0 0 σ
    else
      zX8_adjust_55 x1 x2 x3 s0 σ
noncomputable def zX8_adjust_35 (x1 : Int32) (x2 : Int32) (x3 : Int32) (σ : fv_S) : Option fv_O :=
  zX8_adjust_40 x1 x2 x3 1 σ
noncomputable def zX8_adjust (σ : fv_S) : Option fv_O :=
  if ((fv_ga σ 23 6) &&& (1 : Int32)) = (1 : Int32) then
    zX8_adjust_35 (fv_ga σ 23 7) (fv_ga σ 23 6) ((fv_ga σ 23 7) &&& (15 : Int32)) σ
  else
    if (fv_ga σ 23 7) ≤ (153 : Int32) then
      zX8_adjust_40 (fv_ga σ 23 7) (fv_ga σ 23 6) ((fv_ga σ 23 7) &&& (15 : Int32)) 0 σ
    else
      zX8_adjust_35 (fv_ga σ 23 7) (fv_ga σ 23 6) ((fv_ga σ 23 7) &&& (15 : Int32)) σ
noncomputable def zX8_doAlone_60 (x1 : Int32) (x2 : Int32) (x3 : Int32) (σ : fv_S) : Option fv_O :=
  fv_bi (zX8_turned x1 x2 σ) (fun r2 σ1 =>
    fv_rv (fv_sa (fv_sa σ1 23 7 r2) 23 6 (((x3 &&& (196 : Int32)) ||| (r2 &&& (40 : Int32))) ||| ((fv_ga σ1 23 6) &&& (1 : Int32))))) fv_no
noncomputable def zX8_doAlone (x1 : Int32) (σ : fv_S) : Option fv_O :=
  if x1 = 0 then
    zX8_doAlone_60 x1 (fv_ga σ 23 7) (fv_ga σ 23 6) σ
  else if x1 = 1 then
    zX8_doAlone_60 x1 (fv_ga σ 23 7) (fv_ga σ 23 6) σ
  else if x1 = 2 then
    zX8_doAlone_60 x1 (fv_ga σ 23 7) (fv_ga σ 23 6) σ
  else if x1 = 3 then
    zX8_doAlone_60 x1 (fv_ga σ 23 7) (fv_ga σ 23 6) σ
  else if x1 = 4 then
    fv_bv (zX8_adjust σ) (fun σ3 =>
      fv_rv σ3) fv_no
  else if x1 = 5 then
    fv_rv (fv_sa (fv_sa σ 23 7 ((fv_ga σ 23 7) ^^^ (255 : Int32))) 23 6 ((((fv_ga σ 23 6) &&& (197 : Int32)) ||| (18 : Int32)) ||| (((fv_ga σ 23 7) ^^^ (255 : Int32)) &&& (40 : Int32))))
  else if x1 = 6 then
    fv_rv (fv_sa σ 23 6 ((((fv_ga σ 23 6) &&& (196 : Int32)) ||| (1 : Int32)) ||| ((fv_ga σ 23 7) &&& (40 : Int32))))
  else 
    fv_rv (fv_sa σ 23 6 (((((fv_ga σ 23 6) &&& (196 : Int32)) ||| (((fv_ga σ 23 6) &&& (1 : Int32)) <<< (4 : Int32))) ||| (((fv_ga σ 23 6) &&& (1 : Int32)) ^^^ (1 : Int32))) ||| ((fv_ga σ 23 7) &&& (40 : Int32))))
noncomputable def zX8_sum (x1 : Int32) (x2 : Int32) (x3 : Int32) (σ : fv_S) : Option fv_O :=
  fv_bi (zX8_signs (((x1 + x2) + x3) &&& (255 : Int32)) σ) (fun r2 σ1 =>
    fv_ri (((x1 + x2) + x3) &&& (255 : Int32)) (fv_sa σ1 23 6 (((r2 ||| (((x1 ^^^ x2) ^^^ (((x1 + x2) + x3) &&& (255 : Int32))) &&& (16 : Int32))) ||| ((((x1 ^^^ (x2 ^^^ ((-1) : Int32))) &&& (x1 ^^^ (((x1 + x2) + x3) &&& (255 : Int32)))) &&& (128 : Int32)) >>> (5 : Int32))) ||| (((x1 + x2) + x3) >>> (8 : Int32))))) fv_no
noncomputable def zX8_stepUp_31 (x3 : Int32) (s0 : Int32) (σ : fv_S) : Option fv_O :=
  fv_ri s0 (fv_sa σ 23 6 (((fv_ga σ 23 6) &&& (254 : Int32)) ||| x3))
noncomputable def zX8_stepUp (x1 : Int32) (x2 : Int32) (σ : fv_S) : Option fv_O :=
  if x2 = 0 then
    fv_bi (zX8_sum x1 1 0 σ) (fun r2 σ1 =>
      zX8_stepUp_31 ((fv_ga σ 23 6) &&& (1 : Int32)) r2 σ1) fv_no
  else
    fv_bi (zX8_difference x1 1 0 σ) (fun r4 σ3 =>
      zX8_stepUp_31 ((fv_ga σ 23 6) &&& (1 : Int32)) r4 σ3) fv_no
noncomputable def zX8_doLoad_84 (x2 : Int32) (σ : fv_S) : Option fv_O :=
  fv_bv (zX8_store x2 (fv_ga σ 23 7) σ) (fun σ1 =>
    fv_rv σ1) fv_no
noncomputable def zX8_doLoad_99 (x2 : Int32) (σ : fv_S) : Option fv_O :=
  fv_bi (zX8_peek x2 σ) (fun r3 σ2 =>
    fv_rv (fv_sa σ2 23 7 r3)) fv_no
noncomputable def zX8_doLoad_139 (x2 : Int32) (σ : fv_S) : Option fv_O :=
  fv_bi (zX8_wide x2 σ) (fun r5 σ4 =>
    fv_bv (zX8_setBase r5 σ4) (fun σ6 =>
      fv_rv σ6) fv_no) fv_no
noncomputable def zX8_doLoad_34 (x1 : Int32) (s0 : Int32) (σ : fv_S) : Option fv_O :=
  if x1 = 0 then
    zX8_doLoad_84 s0 σ
  else if x1 = 1 then
    zX8_doLoad_99 s0 σ
  else if x1 = 2 then
    zX8_doLoad_84 s0 σ
  else if x1 = 3 then
    zX8_doLoad_99 s0 σ
  else if x1 = 4 then
    fv_bi (zX8_base σ) (fun r8 σ7 =>
      fv_bv (zX8_store s0 r8 σ7) (fun σ9 =>
        fv_bv (zX8_store (s0 + (1 : Int32)) (r8 >>> (8 : Int32)) σ9) (fun σ10 =>
          fv_rv σ10) fv_no) fv_no) fv_no
  else if x1 = 5 then
    zX8_doLoad_139 s0 σ
  else if x1 = 6 then
    zX8_doLoad_84 s0 σ
  else if x1 = 7 then
    zX8_doLoad_99 s0 σ
  else 
    zX8_doLoad_139 s0 σ
noncomputable def zX8_doLoad (x1 : Int32) (σ : fv_S) : Option fv_O :=
  if (2 : Int32) ≤ x1 then
    if (4 : Int32) ≤ x1 then
      fv_bi (zX8_wide (fv_gi σ 64) σ) (fun r12 σ11 =>
        zX8_doLoad_34 x1 r12 σ11) fv_no
    else
      fv_bi (zX8_two 2 σ) (fun r14 σ13 =>
        zX8_doLoad_34 x1 r14 σ13) fv_no
  else
    fv_bi (zX8_two 0 σ) (fun r16 σ15 =>
      zX8_doLoad_34 x1 r16 σ15) fv_no
noncomputable def zX8_addPair (x1 : Int32) (σ : fv_S) : Option fv_O :=
  fv_bi (zX8_base σ) (fun r2 σ1 =>
    fv_bv (zX8_setBase ((r2 + x1) &&& (65535 : Int32)) (fv_sa σ1 23 6 (((((fv_ga σ1 23 6) &&& (196 : Int32)) ||| ((((r2 ^^^ x1) ^^^ (r2 + x1)) >>> (8 : Int32)) &&& (16 : Int32))) ||| ((r2 + x1) >>> (16 : Int32))) ||| (((r2 + x1) >>> (8 : Int32)) &&& (40 : Int32))))) (fun σ3 =>
      fv_rv σ3) fv_no) fv_no
noncomputable def zX8_exchange (x1 : Int32) (σ : fv_S) : Option fv_O :=
  if fv_in x1 8 then
    if fv_in x1 8 then
      if fv_in x1 8 then
        if fv_in x1 8 then
          fv_rv (fv_sa (fv_sa σ 23 x1 (fv_ga σ 24 x1)) 24 x1 (fv_ga σ 23 x1))
        else none
      else none
    else none
  else none
noncomputable def zX8_holds_62 (s0 : Int32) (s1 : Int32) (σ : fv_S) : Option fv_O :=
  if ¬ s0 = s1 then
    fv_ri 0 σ
  else
    fv_ri 1 σ
noncomputable def zX8_holds_50 (x1 : Int32) (s0 : Int32) (σ : fv_S) : Option fv_O :=
  if ¬ (x1 &&& (1 : Int32)) = (1 : Int32) then
    zX8_holds_62 s0 0 σ
  else
    zX8_holds_62 s0 1 σ
noncomputable def zX8_holds_32 (x1 : Int32) (s0 : Int32) (σ : fv_S) : Option fv_O :=
  if ((fv_ga σ 23 6) &&& s0) = 0 then
    zX8_holds_50 x1 0 σ
  else
    zX8_holds_50 x1 1 σ
noncomputable def zX8_holds (x1 : Int32) (σ : fv_S) : Option fv_O :=
  if (2 : Int32) ≤ x1 then
    if (4 : Int32) ≤ x1 then
      if (6 : Int32) ≤ x1 then
        zX8_holds_32 x1 128 σ
      else
        zX8_holds_32 x1 4 σ
    else
      zX8_holds_32 x1 1 σ
  else
    zX8_holds_32 x1 64 σ
noncomputable def zX8_doNear_79 (x2 : Int32) (σ : fv_S) : Option fv_O :=
  if x2 = 0 then
    fv_rv σ
  else
    fv_bi (zX8_peek (fv_gi σ 64) σ) (fun r2 σ1 =>
      fv_bi (zX8_signed r2 σ1) (fun r4 σ3 =>
        fv_rv (fv_si σ3 76 (((fv_gi σ 76) + r4) &&& (65535 : Int32)))) fv_no) fv_no
noncomputable def zX8_doNear_62 (s0 : Int32) (σ : fv_S) : Option fv_O :=
  zX8_doNear_79 s0 σ
noncomputable def zX8_doNear (x1 : Int32) (σ : fv_S) : Option fv_O :=
  if ¬ x1 = 0 then
    if ¬ x1 = (1 : Int32) then
      if ¬ x1 = (2 : Int32) then
        if x1 ≤ (3 : Int32) then
          zX8_doNear_79 1 σ
        else
          fv_bi (zX8_holds (x1 - (4 : Int32)) σ) (fun r6 σ5 =>
            zX8_doNear_79 r6 σ5) fv_no
      else
        if (((fv_ga σ 23 0) - (1 : Int32)) &&& (255 : Int32)) = 0 then
          zX8_doNear_62 0 (fv_sa σ 23 0 (((fv_ga σ 23 0) - (1 : Int32)) &&& (255 : Int32)))
        else
          zX8_doNear_62 1 (fv_sa σ 23 0 (((fv_ga σ 23 0) - (1 : Int32)) &&& (255 : Int32)))
    else
      fv_bv (zX8_exchange 7 σ) (fun σ7 =>
        fv_bv (zX8_exchange 6 σ7) (fun σ8 =>
          fv_rv σ8) fv_no) fv_no
  else
    fv_rv σ
noncomputable def zX8_doFirst_140 (s1 : Int32) (s2 : Int32) (s3 : Int32) (σ : fv_S) : Option fv_O :=
  fv_bv (zX8_setPair s1 ((s2 + s3) &&& (65535 : Int32)) σ) (fun σ1 =>
    fv_rv σ1) fv_no
noncomputable def zX8_doFirst_26 (x1 : Int32) (x2 : Int32) (s0 : Int32) (σ : fv_S) : Option fv_O :=
  if ((fv_gi σ 61) &&& (7 : Int32)) = 0 then
    fv_bv (zX8_doNear x1 σ) (fun σ2 =>
      fv_rv σ2) fv_no
  else if ((fv_gi σ 61) &&& (7 : Int32)) = 1 then
    if s0 = 0 then
      fv_bi (zX8_wide (fv_gi σ 64) σ) (fun r4 σ3 =>
        fv_bv (zX8_setPair x2 r4 σ3) (fun σ5 =>
          fv_rv σ5) fv_no) fv_no
    else
      fv_bi (zX8_pairAt x2 σ) (fun r7 σ6 =>
        fv_bv (zX8_addPair r7 σ6) (fun σ8 =>
          fv_rv σ8) fv_no) fv_no
  else if ((fv_gi σ 61) &&& (7 : Int32)) = 2 then
    fv_bv (zX8_doLoad x1 σ) (fun σ9 =>
      fv_rv σ9) fv_no
  else if ((fv_gi σ 61) &&& (7 : Int32)) = 3 then
    fv_bi (zX8_pairAt x2 σ) (fun r11 σ10 =>
      if s0 = 0 then
        zX8_doFirst_140 x2 r11 1 σ10
      else
        zX8_doFirst_140 x2 r11 (-1) σ10) fv_no
  else if ((fv_gi σ 61) &&& (7 : Int32)) = 4 then
    fv_bi (zX8_octetAt x1 σ) (fun r13 σ12 =>
      fv_bi (zX8_stepUp r13 0 σ12) (fun r15 σ14 =>
        fv_bv (zX8_setOctet x1 r15 σ14) (fun σ16 =>
          fv_rv σ16) fv_no) fv_no) fv_no
  else if ((fv_gi σ 61) &&& (7 : Int32)) = 5 then
    fv_bi (zX8_octetAt x1 σ) (fun r18 σ17 =>
      fv_bi (zX8_stepUp r18 1 σ17) (fun r20 σ19 =>
        fv_bv (zX8_setOctet x1 r20 σ19) (fun σ21 =>
          fv_rv σ21) fv_no) fv_no) fv_no
  else if ((fv_gi σ 61) &&& (7 : Int32)) = 6 then
    fv_bi (zX8_peek (fv_gi σ 64) σ) (fun r23 σ22 =>
      fv_bv (zX8_setOctet x1 r23 σ22) (fun σ24 =>
        fv_rv σ24) fv_no) fv_no
  else 
    fv_bv (zX8_doAlone x1 σ) (fun σ25 =>
      fv_rv σ25) fv_no
noncomputable def zX8_doFirst (σ : fv_S) : Option fv_O :=
  if ¬ ((((fv_gi σ 61) >>> (3 : Int32)) &&& (7 : Int32)) &&& (1 : Int32)) = (1 : Int32) then
    zX8_doFirst_26 (((fv_gi σ 61) >>> (3 : Int32)) &&& (7 : Int32)) ((((fv_gi σ 61) >>> (3 : Int32)) &&& (7 : Int32)) >>> (1 : Int32)) 0 σ
  else
    zX8_doFirst_26 (((fv_gi σ 61) >>> (3 : Int32)) &&& (7 : Int32)) ((((fv_gi σ 61) >>> (3 : Int32)) &&& (7 : Int32)) >>> (1 : Int32)) 1 σ
noncomputable def zX8_reckon (x1 : Int32) (x2 : Int32) (σ : fv_S) : Option fv_O :=
  if x1 = 0 then
    fv_bi (zX8_sum (fv_ga σ 23 7) x2 0 σ) (fun r2 σ1 =>
      fv_rv (fv_sa σ1 23 7 r2)) fv_no
  else if x1 = 1 then
    fv_bi (zX8_sum (fv_ga σ 23 7) x2 ((fv_ga σ 23 6) &&& (1 : Int32)) σ) (fun r4 σ3 =>
      fv_rv (fv_sa σ3 23 7 r4)) fv_no
  else if x1 = 2 then
    fv_bi (zX8_difference (fv_ga σ 23 7) x2 0 σ) (fun r6 σ5 =>
      fv_rv (fv_sa σ5 23 7 r6)) fv_no
  else if x1 = 3 then
    fv_bi (zX8_difference (fv_ga σ 23 7) x2 ((fv_ga σ 23 6) &&& (1 : Int32)) σ) (fun r8 σ7 =>
      fv_rv (fv_sa σ7 23 7 r8)) fv_no
  else if x1 = 4 then
    fv_bi (zX8_signs ((fv_ga σ 23 7) &&& x2) (fv_sa σ 23 7 ((fv_ga σ 23 7) &&& x2))) (fun r10 σ9 =>
      fv_bi (zX8_parity (fv_ga σ9 23 7) σ9) (fun r12 σ11 =>
        fv_rv (fv_sa σ11 23 6 ((r10 ||| r12) ||| (16 : Int32)))) fv_no) fv_no
  else if x1 = 5 then
    fv_bi (zX8_signs ((fv_ga σ 23 7) ^^^ x2) (fv_sa σ 23 7 ((fv_ga σ 23 7) ^^^ x2))) (fun r14 σ13 =>
      fv_bi (zX8_parity (fv_ga σ13 23 7) σ13) (fun r16 σ15 =>
        fv_rv (fv_sa σ15 23 6 (r14 ||| r16))) fv_no) fv_no
  else if x1 = 6 then
    fv_bi (zX8_signs ((fv_ga σ 23 7) ||| x2) (fv_sa σ 23 7 ((fv_ga σ 23 7) ||| x2))) (fun r18 σ17 =>
      fv_bi (zX8_parity (fv_ga σ17 23 7) σ17) (fun r20 σ19 =>
        fv_rv (fv_sa σ19 23 6 (r18 ||| r20))) fv_no) fv_no
  else 
    fv_bi (zX8_difference (fv_ga σ 23 7) x2 0 σ) (fun r22 σ21 =>
      fv_rv (fv_sa σ21 23 6 (((fv_ga σ21 23 6) &&& ((-41) : Int32)) ||| (x2 &&& (40 : Int32))))) fv_no
noncomputable def zX8_doThird_189 (σ : fv_S) : Option fv_O :=
  fv_rv (fv_si (fv_si (fv_si σ 77 1) 78 1) 85 1)
noncomputable def zX8_doThird (x1 : Int32) (σ : fv_S) : Option fv_O :=
  if x1 = 0 then
    fv_bi (zX8_wide (fv_gi σ 64) σ) (fun r2 σ1 =>
      fv_rv (fv_si σ1 76 r2)) fv_no
  else if x1 = 1 then
    zX8_doThird_189 σ
  else if x1 = 2 then
    fv_bi (zX8_peek (fv_gi σ 64) σ) (fun r4 σ3 =>
      fv_bv (zX8_outPort r4 (fv_ga σ3 23 7) σ3) (fun σ5 =>
        fv_rv σ5) fv_no) fv_no
  else if x1 = 3 then
    fv_bi (zX8_peek (fv_gi σ 64) σ) (fun r7 σ6 =>
      if fv_in r7 256 then
        fv_rv (fv_sa σ6 23 7 (fv_ga σ6 26 r7))
      else none) fv_no
  else if x1 = 4 then
    fv_bi (zX8_wide (fv_gi σ 75) σ) (fun r10 σ9 =>
      fv_bi (zX8_base σ9) (fun r12 σ11 =>
        fv_bv (zX8_store (fv_gi σ11 75) r12 σ11) (fun σ13 =>
          fv_bv (zX8_store ((fv_gi σ13 75) + (1 : Int32)) (r12 >>> (8 : Int32)) σ13) (fun σ14 =>
            fv_bv (zX8_setBase r10 σ14) (fun σ15 =>
              fv_rv σ15) fv_no) fv_no) fv_no) fv_no) fv_no
  else if x1 = 5 then
    fv_bi (zX8_two 2 σ) (fun r17 σ16 =>
      fv_bi (zX8_two 4 σ16) (fun r19 σ18 =>
        fv_bv (zX8_setTwo 2 r19 σ18) (fun σ20 =>
          fv_bv (zX8_setTwo 4 r17 σ20) (fun σ21 =>
            fv_rv σ21) fv_no) fv_no) fv_no) fv_no
  else if x1 = 6 then
    fv_rv (fv_si (fv_si σ 77 0) 78 0)
  else 
    zX8_doThird_189 σ
noncomputable def zX8_doReturns_71_b (N : Nat) (k71 : Int32 → fv_S → Option fv_O) (x3 : Int32) (σ : fv_S) : Option fv_O :=
  if (5 : Int32) < x3 then
    fv_rv σ
  else
    fv_bv (zX8_exchange x3 σ) (fun σ1 =>
      k71 (x3 + (1 : Int32)) σ1) fv_no
noncomputable def zX8_doReturns_71 (N : Nat) : Nat → Int32 → fv_S → Option fv_O
  | 0, _, _ => none
  | n + 1, x3, σ => zX8_doReturns_71_b N (zX8_doReturns_71 N n) x3 σ
noncomputable def zX8_doReturns (N : Nat) (x1 : Int32) (x2 : Int32) (σ : fv_S) : Option fv_O :=
  if ¬ x2 = 0 then
    if ¬ x1 = 0 then
      if ¬ x1 = (1 : Int32) then
        if ¬ x1 = (2 : Int32) then
          fv_bi (zX8_base σ) (fun r3 σ2 =>
            fv_rv (fv_si σ2 75 r3)) fv_no
        else
          fv_bi (zX8_base σ) (fun r5 σ4 =>
            fv_rv (fv_si σ4 76 r5)) fv_no
      else
        zX8_doReturns_71 N N 0 σ
    else
      fv_bi (zX8_popTwo σ) (fun r7 σ6 =>
        fv_rv (fv_si σ6 76 r7)) fv_no
  else
    fv_bi (zX8_popTwo σ) (fun r9 σ8 =>
      if ¬ x1 = (3 : Int32) then
        fv_bv (zX8_setPair x1 r9 σ8) (fun σ10 =>
          fv_rv σ10) fv_no
      else
        fv_rv (fv_sa (fv_sa σ8 23 7 (r9 >>> (8 : Int32))) 23 6 (r9 &&& (255 : Int32)))) fv_no
noncomputable def zX8_doLast_220 (N : Nat) (s1 : Int32) (σ : fv_S) : Option fv_O :=
  fv_bv (zX8_pushTwo s1 σ) (fun σ1 =>
    fv_rv σ1) fv_no
noncomputable def zX8_doLast_26 (N : Nat) (x1 : Int32) (x2 : Int32) (s0 : Int32) (σ : fv_S) : Option fv_O :=
  if ((fv_gi σ 61) &&& (7 : Int32)) = 0 then
    fv_bi (zX8_holds x1 σ) (fun r3 σ2 =>
      if r3 = 0 then
        fv_rv σ2
      else
        fv_bi (zX8_popTwo σ2) (fun r5 σ4 =>
          fv_rv (fv_si σ4 76 r5)) fv_no) fv_no
  else if ((fv_gi σ 61) &&& (7 : Int32)) = 1 then
    fv_bv (zX8_doReturns N x2 s0 σ) (fun σ6 =>
      fv_rv σ6) fv_no
  else if ((fv_gi σ 61) &&& (7 : Int32)) = 2 then
    fv_bi (zX8_holds x1 σ) (fun r8 σ7 =>
      if r8 = 0 then
        fv_rv σ7
      else
        fv_bi (zX8_wide (fv_gi σ7 64) σ7) (fun r10 σ9 =>
          fv_rv (fv_si σ9 76 r10)) fv_no) fv_no
  else if ((fv_gi σ 61) &&& (7 : Int32)) = 3 then
    fv_bv (zX8_doThird x1 σ) (fun σ11 =>
      fv_rv σ11) fv_no
  else if ((fv_gi σ 61) &&& (7 : Int32)) = 4 then
    fv_bi (zX8_holds x1 σ) (fun r13 σ12 =>
      if r13 = 0 then
        fv_rv σ12
      else
        fv_bi (zX8_wide (fv_gi σ12 64) σ12) (fun r15 σ14 =>
          fv_bv (zX8_pushTwo (fv_gi σ14 76) σ14) (fun σ16 =>
            fv_rv (fv_si σ16 76 r15)) fv_no) fv_no) fv_no
  else if ((fv_gi σ 61) &&& (7 : Int32)) = 5 then
    if s0 = 0 then
      if ¬ x2 = (3 : Int32) then
        fv_bi (zX8_pairAt x2 σ) (fun r18 σ17 =>
          zX8_doLast_220 N r18 σ17) fv_no
      else
        fv_bi (zX8_at 0 σ) (fun r20 σ19 =>
          zX8_doLast_220 N r20 σ19) fv_no
    else
      fv_bi (zX8_wide (fv_gi σ 64) σ) (fun r22 σ21 =>
        fv_bv (zX8_pushTwo (fv_gi σ21 76) σ21) (fun σ23 =>
          fv_rv (fv_si σ23 76 r22)) fv_no) fv_no
  else if ((fv_gi σ 61) &&& (7 : Int32)) = 6 then
    fv_bi (zX8_peek (fv_gi σ 64) σ) (fun r25 σ24 =>
      fv_bv (zX8_reckon x1 r25 σ24) (fun σ26 =>
        fv_rv σ26) fv_no) fv_no
  else 
    fv_bv (zX8_pushTwo (fv_gi σ 76) σ) (fun σ27 =>
      fv_rv (fv_si σ27 76 ((8 : Int32) * x1))) fv_no
noncomputable def zX8_doLast (N : Nat) (σ : fv_S) : Option fv_O :=
  if ¬ ((((fv_gi σ 61) >>> (3 : Int32)) &&& (7 : Int32)) &&& (1 : Int32)) = (1 : Int32) then
    zX8_doLast_26 N (((fv_gi σ 61) >>> (3 : Int32)) &&& (7 : Int32)) ((((fv_gi σ 61) >>> (3 : Int32)) &&& (7 : Int32)) >>> (1 : Int32)) 0 σ
  else
    zX8_doLast_26 N (((fv_gi σ 61) >>> (3 : Int32)) &&& (7 : Int32)) ((((fv_gi σ 61) >>> (3 : Int32)) &&& (7 : Int32)) >>> (1 : Int32)) 1 σ
noncomputable def zX8_step_80 (N : Nat) (x1 : Int32) (σ : fv_S) : Option fv_O :=
  if ¬ (fv_gi σ 59) = (1 : Int32) then
    if ¬ (fv_gi σ 59) = (2 : Int32) then
      if ¬ ((fv_gi σ 61) >>> (6 : Int32)) = 0 then
        if ¬ ((fv_gi σ 61) >>> (6 : Int32)) = (1 : Int32) then
          if ¬ ((fv_gi σ 61) >>> (6 : Int32)) = (2 : Int32) then
            fv_bv (zX8_doLast N (fv_si σ 76 (((fv_gi σ 76) + (fv_gi σ 63)) &&& (65535 : Int32)))) (fun σ1 =>
              fv_ri 1 σ1) fv_no
          else
            fv_bi (zX8_octetAt ((fv_gi σ 61) &&& (7 : Int32)) (fv_si σ 76 (((fv_gi σ 76) + (fv_gi σ 63)) &&& (65535 : Int32)))) (fun r3 σ2 =>
              fv_bv (zX8_reckon (((fv_gi σ 61) >>> (3 : Int32)) &&& (7 : Int32)) r3 σ2) (fun σ4 =>
                fv_ri 1 σ4) fv_no) fv_no
        else
          fv_bi (zX8_octetAt ((fv_gi σ 61) &&& (7 : Int32)) (fv_si σ 76 (((fv_gi σ 76) + (fv_gi σ 63)) &&& (65535 : Int32)))) (fun r6 σ5 =>
            fv_bv (zX8_setOctet (((fv_gi σ 61) >>> (3 : Int32)) &&& (7 : Int32)) r6 σ5) (fun σ7 =>
              fv_ri 1 σ7) fv_no) fv_no
      else
        fv_bv (zX8_doFirst (fv_si σ 76 (((fv_gi σ 76) + (fv_gi σ 63)) &&& (65535 : Int32)))) (fun σ8 =>
          fv_ri 1 σ8) fv_no
    else
      fv_bv (zX8_do237 x1 (fv_si σ 76 (((fv_gi σ 76) + (fv_gi σ 63)) &&& (65535 : Int32)))) (fun σ9 =>
        fv_ri 1 σ9) fv_no
  else
    fv_bv (zX8_do203 (fv_si σ 76 (((fv_gi σ 76) + (fv_gi σ 63)) &&& (65535 : Int32)))) (fun σ10 =>
      fv_ri 1 σ10) fv_no
noncomputable def zX8_step_42 (N : Nat) (s1 : Int32) (σ : fv_S) : Option fv_O :=
  fv_bv (zX8_goOn s1 σ) (fun σ11 =>
    if ¬ (fv_gi σ11 59) = 0 then
      zX8_step_80 N (fv_gi σ11 76) (fv_si σ11 85 0)
    else
      if ¬ (fv_gi σ11 60) = 0 then
        zX8_step_80 N (fv_gi σ11 76) (fv_si σ11 85 0)
      else
        if ¬ (fv_gi σ11 61) = (118 : Int32) then
          zX8_step_80 N (fv_gi σ11 76) (fv_si σ11 85 0)
        else
          fv_ri 3 (fv_si σ11 85 0)) fv_no
noncomputable def zX8_step_41 (N : Nat) (σ : fv_S) : Option fv_O :=
  zX8_step_42 N 2 σ
noncomputable def zX8_step (N : Nat) (σ : fv_S) : Option fv_O :=
  fv_bi (zX8_takeRequest σ) (fun r13 σ12 =>
    if r13 = 0 then
      fv_bi (zX8_decode (fv_gi σ12 76) σ12) (fun r15 σ14 =>
        if ¬ r15 = 0 then
          if ¬ (fv_gi σ14 59) = 0 then
            zX8_step_41 N σ14
          else
            if ¬ (fv_gi σ14 60) = 0 then
              zX8_step_41 N σ14
            else
              zX8_step_42 N 1 σ14
        else
          fv_ri 0 σ14) fv_no
    else
      fv_ri 2 σ12) fv_no
noncomputable def zX8_run_16_b (N : Nat) (k16 : Int32 → Int32 → fv_S → Option fv_O) (x1 : Int32) (x2 : Int32) (σ : fv_S) : Option fv_O :=
  if x1 ≤ x2 then
    fv_ri x2 σ
  else
    fv_bi (zX8_step N σ) (fun r2 σ1 =>
      if r2 = (3 : Int32) then
        fv_ri (x2 + (1 : Int32)) σ1
      else
        if ¬ r2 = 0 then
          k16 x1 (x2 + (1 : Int32)) σ1
        else
          fv_ri (x2 + (1 : Int32)) σ1) fv_no
noncomputable def zX8_run_16 (N : Nat) : Nat → Int32 → Int32 → fv_S → Option fv_O
  | 0, _, _, _ => none
  | n + 1, x1, x2, σ => zX8_run_16_b N (zX8_run_16 N n) x1 x2 σ
noncomputable def zX8_run (N : Nat) (x1 : Int32) (σ : fv_S) : Option fv_O :=
  if x1 < 0 then
    fv_ri (-2) σ
  else
    if x1 ≤ (20000 : Int32) then
      zX8_run_16 N N x1 0 σ
    else
      fv_ri (-2) σ
noncomputable def zX8_outs (σ : fv_S) : Option fv_O :=
  fv_rl (fv_gl σ 86) σ
noncomputable def zX8_clear_51_b (N : Nat) (k51 : Int32 → fv_S → Option fv_O) (x1 : Int32) (σ : fv_S) : Option fv_O :=
  if (256 : Int32) ≤ x1 then
    fv_rv (fv_sl (fv_si (fv_si (fv_si (fv_si (fv_si (fv_si (fv_si (fv_si (fv_sa (fv_sa (fv_si (fv_si σ 72 0) 73 0) 25 1 0) 25 2 0) 75 65535) 76 0) 77 0) 78 0) 79 0) 82 0) 83 0) 85 0) 86 0)
  else
    if fv_in x1 256 then
      if fv_in x1 256 then
        k51 (x1 + (1 : Int32)) (fv_sa (fv_sa σ 26 x1 0) 27 x1 0)
      else none
    else none
noncomputable def zX8_clear_51 (N : Nat) : Nat → Int32 → fv_S → Option fv_O
  | 0, _, _ => none
  | n + 1, x1, σ => zX8_clear_51_b N (zX8_clear_51 N n) x1 σ
noncomputable def zX8_clear_23_b (N : Nat) (k23 : Int32 → fv_S → Option fv_O) (x1 : Int32) (σ : fv_S) : Option fv_O :=
  if (8 : Int32) ≤ x1 then
    zX8_clear_51 N N 0 σ
  else
    if fv_in x1 8 then
      if fv_in x1 8 then
        k23 (x1 + (1 : Int32)) (fv_sa (fv_sa σ 23 x1 0) 24 x1 0)
      else none
    else none
noncomputable def zX8_clear_23 (N : Nat) : Nat → Int32 → fv_S → Option fv_O
  | 0, _, _ => none
  | n + 1, x1, σ => zX8_clear_23_b N (zX8_clear_23 N n) x1 σ
noncomputable def zX8_clear_2_b (N : Nat) (k2 : Int32 → fv_S → Option fv_O) (x1 : Int32) (σ : fv_S) : Option fv_O :=
  if (65536 : Int32) ≤ x1 then
    zX8_clear_23 N N 0 σ
  else
    if fv_in x1 65536 then
      k2 (x1 + (1 : Int32)) (fv_sa σ 13 x1 0)
    else none
noncomputable def zX8_clear_2 (N : Nat) : Nat → Int32 → fv_S → Option fv_O
  | 0, _, _ => none
  | n + 1, x1, σ => zX8_clear_2_b N (zX8_clear_2 N n) x1 σ
noncomputable def zX8_clear (N : Nat) (σ : fv_S) : Option fv_O :=
  zX8_clear_2 N N 0 σ
