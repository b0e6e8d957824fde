set_option maxRecDepth 100000
set_option maxHeartbeats 4000000
noncomputable def zF_X2_add (x1 : Int32) (x2 : Int32) (x3 : Int32) (x4 : Int32) (x5 : Int32) (x6 : Int32) (x7 : Int32) (σ : fv_S) : Option fv_O :=
  if fv_in (fv_gi σ 7) 900 then
    if fv_in (fv_gi σ 7) 900 then
      if fv_in (fv_gi σ 7) 900 then
        if fv_in (fv_gi σ 7) 900 then
          if fv_in (fv_gi σ 7) 900 then
            if fv_in (fv_gi σ 7) 900 then
              if fv_in (fv_gi σ 7) 900 then
                if fv_in (((256 : Int32) * x1) + x2) 1792 then
                  fv_rv (fv_si (fv_sa (fv_sa (fv_sa (fv_sa (fv_sa (fv_sa (fv_sa (fv_sa σ 1 (fv_gi σ 7) x3) 2 (fv_gi σ 7) x4) 3 (fv_gi σ 7) x5) 4 (fv_gi σ 7) x6) 5 (fv_gi σ 7) x7) 6 (fv_gi σ 7) x1) 7 (fv_gi σ 7) x2) 8 (((256 : Int32) * x1) + x2) (fv_gi σ 7)) 7 ((fv_gi σ 7) + (1 : Int32)))
                else none
              else none
            else none
          else none
        else none
      else none
    else none
  else none
noncomputable def zF_X2_one (x1 : Int32) (x2 : Int32) (x3 : Int32) (x4 : Int32) (σ : fv_S) : Option fv_O :=
  fv_bv (zF_X2_add 0 x1 x2 x3 x4 0 0 σ) (fun σ1 =>
    fv_rv σ1) fv_no
noncomputable def zF_X2_two (x1 : Int32) (x2 : Int32) (x3 : Int32) (x4 : Int32) (x5 : Int32) (x6 : Int32) (σ : fv_S) : Option fv_O :=
  fv_bv (zF_X2_add 0 x1 x2 x3 x4 x5 x6 σ) (fun σ1 =>
    fv_rv σ1) fv_no
noncomputable def zF_X2_loads_62 (s1 : Int32) (s2 : Int32) (s3 : Int32) (s4 : Int32) (s5 : Int32) (s6 : Int32) (σ : fv_S) : Option fv_O :=
  fv_bv (zF_X2_two s1 s2 s3 s4 s5 s6 σ) (fun σ1 =>
    fv_rv σ1) fv_no
noncomputable def zF_X2_loads_83 (x5 : Int32) (x6 : Int32) (s1 : Int32) (s2 : Int32) (s3 : Int32) (s4 : Int32) (σ : fv_S) : Option fv_O :=
  fv_bv (zF_X2_two s1 s2 s3 s4 x5 x6 σ) (fun σ2 =>
    fv_rv σ2) fv_no
noncomputable def zF_X2_loads_37 (x1 : Int32) (x2 : Int32) (x3 : Int32) (x4 : Int32) (x5 : Int32) (s0 : Int32) (σ : fv_S) : Option fv_O :=
  if x3 = 0 then
    if (2 : Int32) ≤ x2 then
      zF_X2_loads_83 x5 s0 x1 4 x4 0 σ
    else
      zF_X2_loads_83 x5 s0 x1 4 x4 x2 σ
  else
    if (2 : Int32) ≤ x2 then
      zF_X2_loads_62 x1 4 x5 s0 x4 0 σ
    else
      zF_X2_loads_62 x1 4 x5 s0 x4 x2 σ
noncomputable def zF_X2_loads_24 (x1 : Int32) (x2 : Int32) (x3 : Int32) (x4 : Int32) (s0 : Int32) (σ : fv_S) : Option fv_O :=
  if ¬ x2 = (2 : Int32) then
    zF_X2_loads_37 x1 x2 x3 x4 s0 7 σ
  else
    zF_X2_loads_37 x1 x2 x3 x4 s0 2 σ
noncomputable def zF_X2_loads_12 (x1 : Int32) (x2 : Int32) (x3 : Int32) (s0 : Int32) (σ : fv_S) : Option fv_O :=
  if ¬ x2 = (2 : Int32) then
    zF_X2_loads_24 x1 x2 x3 s0 1 σ
  else
    zF_X2_loads_24 x1 x2 x3 s0 2 σ
noncomputable def zF_X2_loads (x1 : Int32) (x2 : Int32) (x3 : Int32) (σ : fv_S) : Option fv_O :=
  if (2 : Int32) ≤ x2 then
    zF_X2_loads_12 x1 x2 x3 7 σ
  else
    zF_X2_loads_12 x1 x2 x3 9 σ
noncomputable def zF_X2_low_114 (s1 : Int32) (s2 : Int32) (σ : fv_S) : Option fv_O :=
  fv_bv (zF_X2_one s1 s2 6 0 σ) (fun σ1 =>
    fv_rv σ1) fv_no
noncomputable def zF_X2_low_198 (x4 : Int32) (s1 : Int32) (s2 : Int32) (σ : fv_S) : Option fv_O :=
  fv_bv (zF_X2_one s1 s2 2 x4 σ) (fun σ2 =>
    fv_rv σ2) fv_no
noncomputable def zF_X2_low_17 (x1 : Int32) (x2 : Int32) (x3 : Int32) (x4 : Int32) (s0 : Int32) (σ : fv_S) : Option fv_O :=
  if x3 = 0 then
    if ¬ x2 = 0 then
      if ¬ x2 = (1 : Int32) then
        if (4 : Int32) ≤ x2 then
          fv_bv (zF_X2_two x1 3 3 (x2 - (4 : Int32)) 6 0 σ) (fun σ3 =>
            fv_rv σ3) fv_no
        else
          if ¬ x2 = (2 : Int32) then
            zF_X2_low_114 x1 3 σ
          else
            zF_X2_low_114 x1 2 σ
      else
        fv_bv (zF_X2_two x1 1 2 4 2 5 σ) (fun σ4 =>
          fv_rv σ4) fv_no
    else
      fv_bv (zF_X2_one x1 0 0 0 σ) (fun σ5 =>
        fv_rv σ5) fv_no
  else if x3 = 1 then
    if s0 = 0 then
      fv_bv (zF_X2_two x1 4 2 x4 5 0 σ) (fun σ6 =>
        fv_rv σ6) fv_no
    else
      fv_bv (zF_X2_two x1 5 2 2 2 x4 σ) (fun σ7 =>
        fv_rv σ7) fv_no
  else if x3 = 2 then
    fv_bv (zF_X2_loads x1 x4 s0 σ) (fun σ8 =>
      fv_rv σ8) fv_no
  else if x3 = 3 then
    if s0 = 0 then
      zF_X2_low_198 x4 x1 6 σ
    else
      zF_X2_low_198 x4 x1 7 σ
  else if x3 = 4 then
    fv_bv (zF_X2_one x1 6 1 x2 σ) (fun σ9 =>
      fv_rv σ9) fv_no
  else if x3 = 5 then
    fv_bv (zF_X2_one x1 7 1 x2 σ) (fun σ10 =>
      fv_rv σ10) fv_no
  else if x3 = 6 then
    fv_bv (zF_X2_two x1 4 1 x2 4 0 σ) (fun σ11 =>
      fv_rv σ11) fv_no
  else 
    fv_bv (zF_X2_one x1 ((8 : Int32) + x2) 0 0 σ) (fun σ12 =>
      fv_rv σ12) fv_no
noncomputable def zF_X2_low (x1 : Int32) (x2 : Int32) (x3 : Int32) (σ : fv_S) : Option fv_O :=
  if ¬ (x2 &&& (1 : Int32)) = (1 : Int32) then
    zF_X2_low_17 x1 x2 x3 (x2 >>> (1 : Int32)) 0 σ
  else
    zF_X2_low_17 x1 x2 x3 (x2 >>> (1 : Int32)) 1 σ
noncomputable def zF_X2_arithmeticWord (x0 : Int32) (σ : fv_S) : Option fv_O :=
  if ¬ x0 = 0 then
    fv_ri (((17 : Int32) + x0) - (1 : Int32)) σ
  else
    fv_ri 5 σ
noncomputable def zF_X2_arithmetic_14 (x1 : Int32) (x2 : Int32) (x3 : Int32) (x4 : Int32) (σ : fv_S) : Option fv_O :=
  fv_bi (zF_X2_arithmeticWord x2 σ) (fun r2 σ1 =>
    fv_bv (zF_X2_two x1 r2 1 7 x3 x4 σ1) (fun σ3 =>
      fv_rv σ3) fv_no) fv_no
noncomputable def zF_X2_arithmetic (x1 : Int32) (x2 : Int32) (x3 : Int32) (x4 : Int32) (σ : fv_S) : Option fv_O :=
  if x2 = 0 then
    zF_X2_arithmetic_14 x1 x2 x3 x4 σ
  else
    if x2 = (1 : Int32) then
      zF_X2_arithmetic_14 x1 x2 x3 x4 σ
    else
      if ¬ x2 = (3 : Int32) then
        fv_bi (zF_X2_arithmeticWord x2 σ) (fun r5 σ4 =>
          fv_bv (zF_X2_one x1 r5 x3 x4 σ4) (fun σ6 =>
            fv_rv σ6) fv_no) fv_no
      else
        zF_X2_arithmetic_14 x1 x2 x3 x4 σ
noncomputable def zF_X2_stacked (x0 : Int32) (σ : fv_S) : Option fv_O :=
  if ¬ x0 = (3 : Int32) then
    fv_ri x0 σ
  else
    fv_ri 4 σ
noncomputable def zF_X2_others_129 (s1 : Int32) (s2 : Int32) (σ : fv_S) : Option fv_O :=
  fv_bv (zF_X2_one s1 s2 0 0 σ) (fun σ1 =>
    fv_rv σ1) fv_no
noncomputable def zF_X2_others (x1 : Int32) (x2 : Int32) (σ : fv_S) : Option fv_O :=
  if x2 = 0 then
    fv_bv (zF_X2_one x1 27 5 0 σ) (fun σ2 =>
      fv_rv σ2) fv_no
  else if x2 = 1 then
    fv_rv σ
  else if x2 = 2 then
    fv_bv (zF_X2_two x1 28 8 0 1 7 σ) (fun σ3 =>
      fv_rv σ3) fv_no
  else if x2 = 3 then
    fv_bv (zF_X2_two x1 29 1 7 8 0 σ) (fun σ4 =>
      fv_rv σ4) fv_no
  else if x2 = 4 then
    fv_bv (zF_X2_two x1 1 9 2 2 2 σ) (fun σ5 =>
      fv_rv σ5) fv_no
  else if x2 = 5 then
    fv_bv (zF_X2_two x1 1 2 1 2 2 σ) (fun σ6 =>
      fv_rv σ6) fv_no
  else 
    if ¬ x2 = (6 : Int32) then
      zF_X2_others_129 x1 31 σ
    else
      zF_X2_others_129 x1 30 σ
noncomputable def zF_X2_high_17 (x1 : Int32) (x2 : Int32) (x3 : Int32) (x4 : Int32) (s0 : Int32) (σ : fv_S) : Option fv_O :=
  if x3 = 0 then
    fv_bv (zF_X2_one x1 24 3 x2 σ) (fun σ1 =>
      fv_rv σ1) fv_no
  else if x3 = 1 then
    if ¬ s0 = 0 then
      if ¬ x4 = 0 then
        if ¬ x4 = (1 : Int32) then
          if ¬ x4 = (2 : Int32) then
            fv_bv (zF_X2_two x1 4 2 3 2 2 σ) (fun σ2 =>
              fv_rv σ2) fv_no
          else
            fv_bv (zF_X2_one x1 27 1 6 σ) (fun σ3 =>
              fv_rv σ3) fv_no
        else
          fv_bv (zF_X2_one x1 26 0 0 σ) (fun σ4 =>
            fv_rv σ4) fv_no
      else
        fv_bv (zF_X2_one x1 24 0 0 σ) (fun σ5 =>
          fv_rv σ5) fv_no
    else
      fv_bi (zF_X2_stacked x4 σ) (fun r7 σ6 =>
        fv_bv (zF_X2_one x1 25 2 r7 σ6) (fun σ8 =>
          fv_rv σ8) fv_no) fv_no
  else if x3 = 2 then
    fv_bv (zF_X2_two x1 27 3 x2 5 0 σ) (fun σ9 =>
      fv_rv σ9) fv_no
  else if x3 = 3 then
    fv_bv (zF_X2_others x1 x2 σ) (fun σ10 =>
      fv_rv σ10) fv_no
  else if x3 = 4 then
    fv_bv (zF_X2_two x1 32 3 x2 5 0 σ) (fun σ11 =>
      fv_rv σ11) fv_no
  else if x3 = 5 then
    if ¬ s0 = 0 then
      if ¬ x4 = 0 then
        fv_rv σ
      else
        fv_bv (zF_X2_one x1 32 5 0 σ) (fun σ12 =>
          fv_rv σ12) fv_no
    else
      fv_bi (zF_X2_stacked x4 σ) (fun r14 σ13 =>
        fv_bv (zF_X2_one x1 33 2 r14 σ13) (fun σ15 =>
          fv_rv σ15) fv_no) fv_no
  else if x3 = 6 then
    fv_bv (zF_X2_arithmetic x1 x2 4 0 σ) (fun σ16 =>
      fv_rv σ16) fv_no
  else 
    fv_bv (zF_X2_one x1 34 12 ((8 : Int32) * x2) σ) (fun σ17 =>
      fv_rv σ17) fv_no
noncomputable def zF_X2_high (x1 : Int32) (x2 : Int32) (x3 : Int32) (σ : fv_S) : Option fv_O :=
  if ¬ (x2 &&& (1 : Int32)) = (1 : Int32) then
    zF_X2_high_17 x1 x2 x3 (x2 >>> (1 : Int32)) 0 σ
  else
    zF_X2_high_17 x1 x2 x3 (x2 >>> (1 : Int32)) 1 σ
noncomputable def zF_X2_plain (x1 : Int32) (σ : fv_S) : Option fv_O :=
  if ¬ (x1 >>> (6 : Int32)) = 0 then
    if ¬ x1 = (118 : Int32) then
      if ¬ (x1 >>> (6 : Int32)) = (1 : Int32) then
        if ¬ (x1 >>> (6 : Int32)) = (2 : Int32) then
          fv_bv (zF_X2_high x1 ((x1 >>> (3 : Int32)) &&& (7 : Int32)) (x1 &&& (7 : Int32)) σ) (fun σ1 =>
            fv_rv σ1) fv_no
        else
          fv_bv (zF_X2_arithmetic x1 ((x1 >>> (3 : Int32)) &&& (7 : Int32)) 1 (x1 &&& (7 : Int32)) σ) (fun σ2 =>
            fv_rv σ2) fv_no
      else
        fv_bv (zF_X2_two x1 4 1 ((x1 >>> (3 : Int32)) &&& (7 : Int32)) 1 (x1 &&& (7 : Int32)) σ) (fun σ3 =>
          fv_rv σ3) fv_no
    else
      fv_bv (zF_X2_one x1 16 0 0 σ) (fun σ4 =>
        fv_rv σ4) fv_no
  else
    fv_bv (zF_X2_low x1 ((x1 >>> (3 : Int32)) &&& (7 : Int32)) (x1 &&& (7 : Int32)) σ) (fun σ5 =>
      fv_rv σ5) fv_no
noncomputable def zF_X2_bits_62 (x1 : Int32) (s1 : Int32) (s2 : Int32) (s3 : Int32) (s4 : Int32) (σ : fv_S) : Option fv_O :=
  fv_bv (zF_X2_add s1 s2 (s3 + s4) 1 (x1 &&& (7 : Int32)) 0 0 σ) (fun σ1 =>
    fv_rv σ1) fv_no
noncomputable def zF_X2_bits (x1 : Int32) (σ : fv_S) : Option fv_O :=
  if (x1 >>> (6 : Int32)) ≤ 0 then
    if ((x1 >>> (3 : Int32)) &&& (7 : Int32)) = (6 : Int32) then
      fv_rv σ
    else
      if ¬ ((x1 >>> (3 : Int32)) &&& (7 : Int32)) = (7 : Int32) then
        zF_X2_bits_62 x1 1 x1 35 ((x1 >>> (3 : Int32)) &&& (7 : Int32)) σ
      else
        zF_X2_bits_62 x1 1 x1 35 6 σ
  else
    fv_bv (zF_X2_add 1 x1 (((42 : Int32) + (x1 >>> (6 : Int32))) - (1 : Int32)) 11 ((x1 >>> (3 : Int32)) &&& (7 : Int32)) 1 (x1 &&& (7 : Int32)) σ) (fun σ2 =>
      fv_rv σ2) fv_no
noncomputable def zF_X2_last (x1 : Int32) (x2 : Int32) (σ : fv_S) : Option fv_O :=
  if (2 : Int32) ≤ x2 then
    if (4 : Int32) ≤ x2 then
      if (6 : Int32) ≤ x2 then
        fv_rv σ
      else
        fv_bv (zF_X2_add 2 x1 (((49 : Int32) + x2) - (4 : Int32)) 0 0 0 0 σ) (fun σ1 =>
          fv_rv σ1) fv_no
    else
      fv_bv (zF_X2_add 2 x1 4 1 7 14 (x2 - (2 : Int32)) σ) (fun σ2 =>
        fv_rv σ2) fv_no
  else
    fv_bv (zF_X2_add 2 x1 4 14 x2 1 7 σ) (fun σ3 =>
      fv_rv σ3) fv_no
noncomputable def zF_X2_middle_123 (x4 : Int32) (s1 : Int32) (s2 : Int32) (s3 : Int32) (σ : fv_S) : Option fv_O :=
  fv_bv (zF_X2_add s1 s2 s3 2 2 2 x4 σ) (fun σ1 =>
    fv_rv σ1) fv_no
noncomputable def zF_X2_middle_253 (s1 : Int32) (s2 : Int32) (s3 : Int32) (s4 : Int32) (s5 : Int32) (σ : fv_S) : Option fv_O :=
  fv_bv (zF_X2_add s1 s2 s3 s4 s5 0 0 σ) (fun σ2 =>
    fv_rv σ2) fv_no
noncomputable def zF_X2_middle_235 (x1 : Int32) (x2 : Int32) (σ : fv_S) : Option fv_O :=
  if ¬ x2 = 0 then
    zF_X2_middle_253 2 x1 48 13 (x2 - (1 : Int32)) σ
  else
    zF_X2_middle_253 2 x1 48 13 0 σ
noncomputable def zF_X2_middle_17 (x1 : Int32) (x2 : Int32) (x3 : Int32) (x4 : Int32) (s0 : Int32) (σ : fv_S) : Option fv_O :=
  if x3 = 0 then
    if x2 = (6 : Int32) then
      fv_rv σ
    else
      fv_bv (zF_X2_add 2 x1 29 1 x2 9 3 σ) (fun σ3 =>
        fv_rv σ3) fv_no
  else if x3 = 1 then
    if x2 = (6 : Int32) then
      fv_rv σ
    else
      fv_bv (zF_X2_add 2 x1 28 9 3 1 x2 σ) (fun σ4 =>
        fv_rv σ4) fv_no
  else if x3 = 2 then
    if s0 = 0 then
      zF_X2_middle_123 x4 2 x1 19 σ
    else
      zF_X2_middle_123 x4 2 x1 17 σ
  else if x3 = 3 then
    if ¬ x4 = (2 : Int32) then
      if s0 = 0 then
        fv_bv (zF_X2_add 2 x1 4 7 0 2 x4 σ) (fun σ5 =>
          fv_rv σ5) fv_no
      else
        fv_bv (zF_X2_add 2 x1 4 2 x4 7 0 σ) (fun σ6 =>
          fv_rv σ6) fv_no
    else
      fv_rv σ
  else if x3 = 4 then
    if ¬ x2 = 0 then
      fv_rv σ
    else
      fv_bv (zF_X2_add 2 x1 45 0 0 0 0 σ) (fun σ7 =>
        fv_rv σ7) fv_no
  else if x3 = 5 then
    if (2 : Int32) ≤ x2 then
      fv_rv σ
    else
      fv_bv (zF_X2_add 2 x1 ((46 : Int32) + x2) 0 0 0 0 σ) (fun σ8 =>
        fv_rv σ8) fv_no
  else if x3 = 6 then
    if x2 = 0 then
      zF_X2_middle_235 x1 x2 σ
    else
      if x2 = (2 : Int32) then
        zF_X2_middle_235 x1 x2 σ
      else
        if ¬ x2 = (3 : Int32) then
          fv_rv σ
        else
          zF_X2_middle_235 x1 x2 σ
  else 
    fv_bv (zF_X2_last x1 x2 σ) (fun σ9 =>
      fv_rv σ9) fv_no
noncomputable def zF_X2_middle (x1 : Int32) (x2 : Int32) (x3 : Int32) (σ : fv_S) : Option fv_O :=
  if ¬ (x2 &&& (1 : Int32)) = (1 : Int32) then
    zF_X2_middle_17 x1 x2 x3 (x2 >>> (1 : Int32)) 0 σ
  else
    zF_X2_middle_17 x1 x2 x3 (x2 >>> (1 : Int32)) 1 σ
noncomputable def zF_X2_extra_31 (x1 : Int32) (x2 : Int32) (x3 : Int32) (x4 : Int32) (σ : fv_S) : Option fv_O :=
  if ¬ x2 = (2 : Int32) then
    fv_rv σ
  else
    if (4 : Int32) ≤ x4 then
      fv_rv σ
    else
      if x3 ≤ (3 : Int32) then
        fv_rv σ
      else
        fv_bv (zF_X2_add 2 x1 (((51 : Int32) + ((4 : Int32) * (x3 - (4 : Int32)))) + x4) 0 0 0 0 σ) (fun σ1 =>
          fv_rv σ1) fv_no
noncomputable def zF_X2_extra (x1 : Int32) (σ : fv_S) : Option fv_O :=
  if ¬ (x1 >>> (6 : Int32)) = (1 : Int32) then
    zF_X2_extra_31 x1 (x1 >>> (6 : Int32)) ((x1 >>> (3 : Int32)) &&& (7 : Int32)) (x1 &&& (7 : Int32)) σ
  else
    fv_bv (zF_X2_middle x1 ((x1 >>> (3 : Int32)) &&& (7 : Int32)) (x1 &&& (7 : Int32)) σ) (fun σ2 =>
      zF_X2_extra_31 x1 (x1 >>> (6 : Int32)) ((x1 >>> (3 : Int32)) &&& (7 : Int32)) (x1 &&& (7 : Int32)) σ2) fv_no
noncomputable def zF_X2_kindWith (x0 : Int32) (x1 : Int32) (x2 : Int32) (σ : fv_S) : Option fv_O :=
  if ¬ x0 = (1 : Int32) then
    fv_ri x0 σ
  else
    if ¬ x1 = (6 : Int32) then
      fv_ri x0 σ
    else
      if x2 = 0 then
        fv_ri 10 σ
      else
        fv_ri 9 σ
noncomputable def zF_X2_valueWith_17 (x0 : Int32) (x1 : Int32) (x2 : Int32) (x3 : Int32) (σ : fv_S) : Option fv_O :=
  if ¬ x0 = (1 : Int32) then
    fv_ri x1 σ
  else
    if ¬ x1 = (6 : Int32) then
      fv_ri x1 σ
    else
      if x3 = 0 then
        fv_ri x2 σ
      else
        fv_ri ((5 : Int32) + x2) σ
noncomputable def zF_X2_valueWith (x0 : Int32) (x1 : Int32) (x2 : Int32) (x3 : Int32) (σ : fv_S) : Option fv_O :=
  if ¬ x0 = (2 : Int32) then
    zF_X2_valueWith_17 x0 x1 x2 x3 σ
  else
    if ¬ x1 = (2 : Int32) then
      zF_X2_valueWith_17 x0 x1 x2 x3 σ
    else
      fv_ri ((6 : Int32) + x2) σ
noncomputable def zF_X2_indexed_190 (N : Nat) (k148 : Int32 → Int32 → fv_S → Option fv_O) (x1 : Int32) (x5 : Int32) (x6 : Int32) (s0 : Int32) (σ : fv_S) : Option fv_O :=
  if fv_in x1 900 then
    if fv_in x1 900 then
      if fv_in x1 900 then
        if fv_in x1 900 then
          fv_bi (zF_X2_kindWith (fv_ga σ 2 x1) (fv_ga σ 3 x1) s0 σ) (fun r6 σ5 =>
            if fv_in x1 900 then
              if fv_in x1 900 then
                fv_bi (zF_X2_valueWith (fv_ga σ5 2 x1) (fv_ga σ5 3 x1) x5 s0 σ5) (fun r10 σ9 =>
                  if fv_in x1 900 then
                    if fv_in x1 900 then
                      fv_bi (zF_X2_kindWith (fv_ga σ9 4 x1) (fv_ga σ9 5 x1) s0 σ9) (fun r14 σ13 =>
                        if fv_in x1 900 then
                          if fv_in x1 900 then
                            fv_bi (zF_X2_valueWith (fv_ga σ13 4 x1) (fv_ga σ13 5 x1) x5 s0 σ13) (fun r18 σ17 =>
                              fv_bv (zF_X2_add x6 (fv_ga σ 7 x1) (fv_ga σ 1 x1) r6 r10 r14 r18 σ17) (fun σ19 =>
                                k148 x1 (x5 + (1 : Int32)) σ19) fv_no) fv_no
                          else none
                        else none) fv_no
                    else none
                  else none) fv_no
              else none
            else none) fv_no
        else none
      else none
    else none
  else none
noncomputable def zF_X2_indexed_169 (N : Nat) (k148 : Int32 → Int32 → fv_S → Option fv_O) (x1 : Int32) (x5 : Int32) (s0 : Int32) (σ : fv_S) : Option fv_O :=
  if fv_in x1 900 then
    if ¬ (fv_ga σ 1 x1) = (27 : Int32) then
      zF_X2_indexed_190 N k148 x1 x5 (s0 + x5) 0 σ
    else
      zF_X2_indexed_190 N k148 x1 x5 (s0 + x5) 1 σ
  else none
noncomputable def zF_X2_indexed_148_b (N : Nat) (k148 : Int32 → Int32 → fv_S → Option fv_O) (x1 : Int32) (x5 : Int32) (σ : fv_S) : Option fv_O :=
  if (2 : Int32) ≤ x5 then
    fv_rv σ
  else
    if fv_in x1 900 then
      if ¬ (fv_ga σ 6 x1) = (1 : Int32) then
        zF_X2_indexed_169 N k148 x1 x5 3 σ
      else
        zF_X2_indexed_169 N k148 x1 x5 5 σ
    else none
noncomputable def zF_X2_indexed_148 (N : Nat) : Nat → Int32 → Int32 → fv_S → Option fv_O
  | 0, _, _, _ => none
  | n + 1, x1, x5, σ => zF_X2_indexed_148_b N (zF_X2_indexed_148 N n) x1 x5 σ
noncomputable def zF_X2_indexed_119 (N : Nat) (x1 : Int32) (x2 : Int32) (x3 : Int32) (s0 : Int32) (σ : fv_S) : Option fv_O :=
  if fv_in x1 900 then
    if (fv_ga σ 6 x1) = (2 : Int32) then
      fv_rv σ
    else
      if ¬ s0 = 0 then
        fv_rv σ
      else
        if ¬ x2 = 0 then
          zF_X2_indexed_148 N N x1 0 σ
        else
          if ¬ x3 = 0 then
            zF_X2_indexed_148 N N x1 0 σ
          else
            fv_rv σ
  else none
noncomputable def zF_X2_indexed_118 (N : Nat) (x1 : Int32) (x2 : Int32) (x3 : Int32) (σ : fv_S) : Option fv_O :=
  zF_X2_indexed_119 N x1 x2 x3 0 σ
noncomputable def zF_X2_indexed_93 (N : Nat) (x1 : Int32) (x2 : Int32) (s0 : Int32) (σ : fv_S) : Option fv_O :=
  if fv_in x1 900 then
    if ¬ (fv_ga σ 1 x1) = (1 : Int32) then
      zF_X2_indexed_118 N x1 x2 s0 σ
    else
      if fv_in x1 900 then
        if ¬ (fv_ga σ 2 x1) = (2 : Int32) then
          zF_X2_indexed_118 N x1 x2 s0 σ
        else
          zF_X2_indexed_119 N x1 x2 s0 1 σ
      else none
  else none
noncomputable def zF_X2_indexed_88 (N : Nat) (x1 : Int32) (x2 : Int32) (σ : fv_S) : Option fv_O :=
  zF_X2_indexed_93 N x1 x2 1 σ
noncomputable def zF_X2_indexed_92 (N : Nat) (x1 : Int32) (x2 : Int32) (σ : fv_S) : Option fv_O :=
  zF_X2_indexed_93 N x1 x2 0 σ
noncomputable def zF_X2_indexed_67 (N : Nat) (x1 : Int32) (x2 : Int32) (σ : fv_S) : Option fv_O :=
  if fv_in x1 900 then
    if ¬ (fv_ga σ 4 x1) = (1 : Int32) then
      zF_X2_indexed_92 N x1 x2 σ
    else
      if fv_in x1 900 then
        if ¬ (fv_ga σ 5 x1) = (6 : Int32) then
          zF_X2_indexed_92 N x1 x2 σ
        else
          zF_X2_indexed_88 N x1 x2 σ
      else none
  else none
noncomputable def zF_X2_indexed_45 (N : Nat) (x1 : Int32) (s0 : Int32) (σ : fv_S) : Option fv_O :=
  if fv_in x1 900 then
    if ¬ (fv_ga σ 2 x1) = (1 : Int32) then
      zF_X2_indexed_67 N x1 s0 σ
    else
      if fv_in x1 900 then
        if (fv_ga σ 3 x1) = (6 : Int32) then
          zF_X2_indexed_88 N x1 s0 σ
        else
          zF_X2_indexed_67 N x1 s0 σ
      else none
  else none
noncomputable def zF_X2_indexed_40 (N : Nat) (x1 : Int32) (σ : fv_S) : Option fv_O :=
  zF_X2_indexed_45 N x1 1 σ
noncomputable def zF_X2_indexed_44 (N : Nat) (x1 : Int32) (σ : fv_S) : Option fv_O :=
  zF_X2_indexed_45 N x1 0 σ
noncomputable def zF_X2_indexed_20 (N : Nat) (x1 : Int32) (σ : fv_S) : Option fv_O :=
  if fv_in x1 900 then
    if ¬ (fv_ga σ 4 x1) = (2 : Int32) then
      zF_X2_indexed_44 N x1 σ
    else
      if fv_in x1 900 then
        if ¬ (fv_ga σ 5 x1) = (2 : Int32) then
          zF_X2_indexed_44 N x1 σ
        else
          zF_X2_indexed_40 N x1 σ
      else none
  else none
noncomputable def zF_X2_indexed (N : Nat) (x1 : Int32) (σ : fv_S) : Option fv_O :=
  if fv_in x1 900 then
    if ¬ (fv_ga σ 2 x1) = (2 : Int32) then
      zF_X2_indexed_20 N x1 σ
    else
      if fv_in x1 900 then
        if (fv_ga σ 3 x1) = (2 : Int32) then
          zF_X2_indexed_40 N x1 σ
        else
          zF_X2_indexed_20 N x1 σ
      else none
  else none
noncomputable def zF_X2_init_167_b (N : Nat) (k167 : Int32 → Int32 → fv_S → Option fv_O) (x1 : Int32) (x2 : Int32) (σ : fv_S) : Option fv_O :=
  if x1 ≤ x2 then
    fv_rv σ
  else
    fv_bv (zF_X2_indexed N x2 σ) (fun σ1 =>
      k167 x1 (x2 + (1 : Int32)) σ1) fv_no
noncomputable def zF_X2_init_167 (N : Nat) : Nat → Int32 → Int32 → fv_S → Option fv_O
  | 0, _, _, _ => none
  | n + 1, x1, x2, σ => zF_X2_init_167_b N (zF_X2_init_167 N n) x1 x2 σ
noncomputable def zF_X2_init_142_b (N : Nat) (k142 : Int32 → fv_S → Option fv_O) (x1 : Int32) (σ : fv_S) : Option fv_O :=
  if (256 : Int32) ≤ x1 then
    zF_X2_init_167 N N (fv_gi σ 7) 0 σ
  else
    fv_bv (zF_X2_extra x1 σ) (fun σ2 =>
      k142 (x1 + (1 : Int32)) σ2) fv_no
noncomputable def zF_X2_init_142 (N : Nat) : Nat → Int32 → fv_S → Option fv_O
  | 0, _, _ => none
  | n + 1, x1, σ => zF_X2_init_142_b N (zF_X2_init_142 N n) x1 σ
noncomputable def zF_X2_init_122_b (N : Nat) (k122 : Int32 → fv_S → Option fv_O) (x1 : Int32) (σ : fv_S) : Option fv_O :=
  if (256 : Int32) ≤ x1 then
    zF_X2_init_142 N N 0 σ
  else
    fv_bv (zF_X2_bits x1 σ) (fun σ3 =>
      k122 (x1 + (1 : Int32)) σ3) fv_no
noncomputable def zF_X2_init_122 (N : Nat) : Nat → Int32 → fv_S → Option fv_O
  | 0, _, _ => none
  | n + 1, x1, σ => zF_X2_init_122_b N (zF_X2_init_122 N n) x1 σ
noncomputable def zF_X2_init_102_b (N : Nat) (k102 : Int32 → fv_S → Option fv_O) (x1 : Int32) (σ : fv_S) : Option fv_O :=
  if (256 : Int32) ≤ x1 then
    zF_X2_init_122 N N 0 σ
  else
    fv_bv (zF_X2_plain x1 σ) (fun σ4 =>
      k102 (x1 + (1 : Int32)) σ4) fv_no
noncomputable def zF_X2_init_102 (N : Nat) : Nat → Int32 → fv_S → Option fv_O
  | 0, _, _ => none
  | n + 1, x1, σ => zF_X2_init_102_b N (zF_X2_init_102 N n) x1 σ
noncomputable def zF_X2_init_78_b (N : Nat) (k78 : Int32 → fv_S → Option fv_O) (x1 : Int32) (σ : fv_S) : Option fv_O :=
  if (1792 : Int32) ≤ x1 then
    zF_X2_init_102 N N 0 σ
  else
    if fv_in x1 1792 then
      k78 (x1 + (1 : Int32)) (fv_sa σ 8 x1 (-1))
    else none
noncomputable def zF_X2_init_78 (N : Nat) : Nat → Int32 → fv_S → Option fv_O
  | 0, _, _ => none
  | n + 1, x1, σ => zF_X2_init_78_b N (zF_X2_init_78 N n) x1 σ
noncomputable def zF_X2_init (N : Nat) (σ : fv_S) : Option fv_O :=
  zF_X2_init_78 N N 0 σ
