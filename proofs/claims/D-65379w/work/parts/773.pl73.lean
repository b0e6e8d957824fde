set_option maxRecDepth 100000
set_option maxHeartbeats 4000000
/-! The plain law: DB and DW in the model, all of it. -/
theorem mFx_y {f : Nat × Nat} {τ : fv_S} {o : Option fv_O} (h : mFx f τ o) (k : Int32 → fv_S → Option fv_O) : mFx f τ (fv_bi o (fun r s => if ¬ r = 0 then k r s else fv_ri 0 s) fv_no) := mFx_n h k
theorem m_dal {B : Nat → Nat} {n N q : Nat} (hS : qS B n) (hN : 7000 ≤ N) {sec : Bool} (wide : Bool) {L : List (List Nat × Int32)} {h0 : Nat} (hh0 : h0 ≤ 65536) {I : List (Bool × Bool)} {org : Nat} : ∀ (f p m c : Nat) (M : qMem) (τ : fv_S), n - p + 1 ≤ f → n - p + 2 ≤ m → c ≤ 12000 - 2 * (n - p) → mD B n sec L h0 c I org M p τ → (sec = true → h0 + c + (qDa B n sec wide L org f p).2.1.length ≤ 65536) → (sec = true → M.2.1 ≤ 2000000000 + (h0 + c)) →
    mSo B n (qLF B n (qDa B n sec wide L org f p).1 (qDa B n sec wide L org f p).2.2 (h0 + c + (qDa B n sec wide L org f p).2.1.length) q) (qDa B n sec wide L org f p).2.2 (fun τ' => mZ B n sec L (h0 + c + (qDa B n sec wide L org f p).2.1.length) I org τ' ∧ (sec = true → mMe (qlm (qDa B n sec wide L org f p).2.1 M (h0 + c)) τ') ∧ (sec = false → mMs τ τ')) τ (zX8_data_8 N m (Int32.ofNat q) (q01 wide) (Int32.ofNat c) (Int32.ofNat h0) τ) := by
  have hn := hS.1
  intro f
  induction f with
  | zero => intro p m c M τ hf; omega
  | succ f ih =>
    intro p m c M τ hf hm hc D hh hB
    obtain ⟨m, rfl⟩ : ∃ j, m = j + 1 := ⟨m - 1, by omega⟩
    have D0 := D
    obtain ⟨z, k, hp, hM⟩ := D
    have hb := qT_b hS p hp
    have h8 := z.2.2.2.2.2.1
    -- behind an item
    have tail : ∀ (p1 c1 : Nat) (g : Option (Nat × Nat)) (τ1 : fv_S), qDo B n wide p = .inr p1 → p < p1 → c1 = c + (qDb B n wide L org p).length → c1 ≤ 12000 - 2 * (n - p1) → qDg B n sec wide L org p = none → mFo τ τ1 → (sec = false → mMs τ τ1) → mD B n sec L h0 c1 I org (qlm (qDb B n wide L org p) M (h0 + c)) p1 τ1 →
        mSo B n (qLF B n (qDa B n sec wide L org (f + 1) p).1 (qDa B n sec wide L org (f + 1) p).2.2 (h0 + c + (qDa B n sec wide L org (f + 1) p).2.1.length) q) (qDa B n sec wide L org (f + 1) p).2.2 (fun τ' => mZ B n sec L (h0 + c + (qDa B n sec wide L org (f + 1) p).2.1.length) I org τ' ∧ (sec = true → mMe (qlm (qDa B n sec wide L org (f + 1) p).2.1 M (h0 + c)) τ') ∧ (sec = false → mMs τ τ')) τ (zX8_data_189 N (zX8_data_8 N m) (Int32.ofNat q) (q01 wide) (Int32.ofNat c1) (Int32.ofNat h0) τ1) := by
      intro p1 c1 g τ1 ho hlt hc1 hc12 hgn fo ms D1
      obtain ⟨z1, k1, hp1, hM1⟩ := D1
      have hb1 := qT_b hS p1 hp1
      have e1 := (m_k k1.1 1 (by omega)).trans (qmk_e (qT B n p1).1).2.1
      unfold zX8_data_189
      by_cases c44 : (qT B n p1).1 = 44
      · have u1 := hb1.1
        have u2 := hb1.2.2.2.1 (by omega) (by omega)
        have u3 := hb1.2.2.1
        obtain ⟨τ2, x2, f2, k2⟩ := m_go hS hN hp1 z1.1 k1
        rw [if_pos (show ¬ fv_gi τ1 3 = 1 from fun e => by have := e1.1 e; omega), show zX8_isSign 44 τ1 = _ from m_sgn hb1 k1.1 44 rfl, fv_bi_ri, show ((qT B n p1).1 == 44) = true by simp [c44], if_pos (show ¬ q01 true = 0 by decide), x2, fv_bv_rv]
        rw [qDa_c ho c44] at hh ⊢
        have eq : ∀ X : Nat, h0 + c + ((qDb B n wide L org p).length + X) = h0 + c1 + X := fun X => by omega
        have D2 : mD B n sec L h0 c1 I org (qlm (qDb B n wide L org p) M (h0 + c)) (qT B n p1).2.2.1 τ2 := ⟨mZ_q z1 f2, k2, u3, fun hs => mMe_s (hM1 hs) (mMs_e (mFe_q f2))⟩
        have R := ih (qT B n p1).2.2.1 m c1 (qlm (qDb B n wide L org p) M (h0 + c)) τ2 (by omega) (by omega) (by omega) D2 (fun hs => by have := hh hs; simp only [List.length_append] at this; omega) (fun hs => by rw [qlm_c]; have := hB hs; omega)
        have fo2 := mFo_t fo (mFo_q f2)
        have R := mSo_t fo2 R
        simp only [List.length_append]
        rw [hgn, eq]
        show mSo B n (qLF B n (qDa B n sec wide L org f (qT B n p1).2.2.1).1 _ _ q) _ _ _ _
        revert R
        generalize qLF B n (qDa B n sec wide L org f (qT B n p1).2.2.1).1 (qDa B n sec wide L org f (qT B n p1).2.2.1).2.2 (h0 + c1 + (qDa B n sec wide L org f (qT B n p1).2.2.1).2.1.length) q = F
        intro R
        cases F with
        | some g => exact R
        | none =>
          obtain ⟨p', τ', r1, r2, r3, r4, r5, r6, r7, r8, r9⟩ := R
          refine ⟨p', τ', r1, r2, r3, r4, r5, r6, r7, fun hs => ?_, fun hs => mMs_t (mMs_t (ms hs) (mMs_e (mFe_q f2))) (r9 hs)⟩
          have := r8 hs
          rw [qlm_app, show h0 + c + (qDb B n wide L org p).length = h0 + c1 by omega]; exact this
      · rw [qDa_e ho c44] at hh ⊢
        have hlen : h0 + c + (qDb B n wide L org p).length = h0 + c1 := by omega
        show mSo B n (qLF B n (qDg B n sec wide L org p) (.inr p1) (h0 + c + (qDb B n wide L org p).length) q) (.inr p1) (fun τ' => mZ B n sec L (h0 + c + (qDb B n wide L org p).length) I org τ' ∧ (sec = true → mMe (qlm (qDb B n wide L org p) M (h0 + c)) τ') ∧ (sec = false → mMs τ τ')) τ _
        rw [hgn, hlen]
        by_cases c0 : (qT B n p1).1 = 0
        · rw [if_neg (show ¬ ¬ fv_gi τ1 3 = 1 from not_not_intro (e1.2 c0)), ← Int32.ofNat_add]
          show mSo B n (if (qT B n p1).1 = 0 then (if 65536 < h0 + c1 then some (8, q) else none) else _) _ _ _ _
          rw [if_pos c0]
          by_cases cl : h0 + c1 ≤ 65536
          · rw [if_pos (show Int32.ofNat (h0 + c1) ≤ 65536 from (p_leN _ 65536 (by omega) (by omega)).2 cl), if_neg (by omega)]
            refine ⟨p1, _, rfl, c0, hp1, rfl, mFo_si fo 20 _ (by omega), k1.1.1, ?_, fun hs => ?_, fun hs => mMs_t (ms hs) ⟨rfl, rfl, rfl⟩⟩
            · obtain ⟨a1, a2, a3, a4, a5, a6, a7, a8⟩ := z1
              exact ⟨⟨a1.1, a1.2⟩, ⟨a2.1, a2.2⟩, a3, rfl, a5, a6, a7, mIf_c I τ1 _ (fun _ _ => ⟨rfl, rfl⟩) a8⟩
            · have := hM1 hs; exact ⟨this.1, this.2.1, this.2.2⟩
          · rw [if_neg (show ¬ Int32.ofNat (h0 + c1) ≤ 65536 from fun e => cl ((p_leN _ 65536 (by omega) (by omega)).1 e)), if_pos (by omega)]
            exact mFx_t fo (mFx_w z1.2.2.2.2.2.1 (8, q) ⟨by show 1 ≤ 8; omega, by show 8 ≤ 9; omega⟩)
        · rw [if_pos (show ¬ fv_gi τ1 3 = 1 from fun e => c0 (e1.1 e)), show zX8_isSign 44 τ1 = _ from m_sgn hb1 k1.1 44 rfl, fv_bi_ri, show ((qT B n p1).1 == 44) = false by simp [c44], if_neg (show ¬ ¬ q01 false = 0 by decide)]
          show mSo B n (if (qT B n p1).1 = 0 then _ else some (qwr (qT B n p1), (qT B n p1).2.1)) _ _ _ _
          rw [if_neg c0]
          exact mFx_t fo (mFx_b (mFx_f (mFt_rf z1.2.2.2.2.2.1 k1.1)))
    show mSo _ _ _ _ _ _ (zX8_data_8_b _ _ _ _ _ _ _)
    unfold zX8_data_8_b
    have e4 := (m_k k.1 4 (by omega)).trans (qmk_e (qT B n p).1).2.2.2.2.1
    by_cases ct : wide = false ∧ (qT B n p).1 = 3
    · -- a text
      have t3 := qT_3 ct.2
      have b1 := hb.1
      have b3 := hb.2.2.1
      have edb : qDb B n wide L org p = (List.range ((qT B n p).2.2.1 - (qT B n p).2.1 - 2)).map (fun i => B ((qT B n p).2.1 + 1 + i)) := by unfold qDb; rw [if_pos ct]
      have edo : qDo B n wide p = .inr (qT B n p).2.2.1 := by unfold qDo; rw [if_pos ct]
      have edg : qDg B n sec wide L org p = none := by unfold qDg; rw [if_pos ct]
      have hl : sec = true → h0 + c + (qDb B n wide L org p).length ≤ 65536 := by
        intro hs
        have := hh hs
        by_cases c44 : (qT B n (qT B n p).2.2.1).1 = 44
        · rw [qDa_c edo c44] at this; simp only [List.length_append] at this; omega
        · rw [qDa_e edo c44] at this; exact this
      have el : (qDb B n wide L org p).length = (qT B n p).2.2.1 - (qT B n p).2.1 - 2 := by rw [edb, List.length_map, List.length_range]
      rw [if_neg (show ¬ ¬ q01 wide = 0 by rw [ct.1]; decide), if_neg (show ¬ ¬ fv_gi τ 3 = 4 from not_not_intro (e4.2 ct.2))]
      obtain ⟨τ1, x1, fo1, ms1, D1⟩ := m_txs (q := q) hS hN (q01 wide) D0 ct.2 (fun hs => ⟨by rw [← el]; exact hl hs, by have := hB hs; have := hl hs; omega⟩) (zX8_data_8 N m)
      rw [x1]
      refine tail (qT B n p).2.2.1 _ none τ1 edo (by omega) (by rw [el]) (by omega) edg fo1 ms1 ?_
      rw [edb]; exact D1
    · -- an expression
      have edo : qDo B n wide p = (qEX B n p).2 := by unfold qDo; rw [if_neg ct]
      have edg : qDg B n sec wide L org p = if sec = true then qkg ((qEX B n p).1 (qen L org)).1 ((qEX B n p).1 (qen L org)).2 (qEX B n p).2 (qDl wide) (qDh wide) (qT B n p).2.1 else none := by unfold qDg; rw [if_neg ct]
      have el : (qDb B n wide L org p).length = if wide = true then 2 else 1 := by unfold qDb; rw [if_neg ct]; split <;> rfl
      have hd : (if ¬ q01 wide = 0 then zX8_data_73 N (zX8_data_8 N m) (Int32.ofNat q) (q01 wide) (Int32.ofNat c) (Int32.ofNat h0) τ else if ¬ fv_gi τ 3 = 4 then zX8_data_73 N (zX8_data_8 N m) (Int32.ofNat q) (q01 wide) (Int32.ofNat c) (Int32.ofNat h0) τ else zX8_data_28 N (zX8_data_8 N m) N (Int32.ofNat q) (q01 wide) (Int32.ofNat c) (Int32.ofNat h0) (fv_gi τ 4 + 1) τ) = zX8_data_73 N (zX8_data_8 N m) (Int32.ofNat q) (q01 wide) (Int32.ofNat c) (Int32.ofNat h0) τ := by
        by_cases cw : q01 wide = 0
        · rw [if_neg (not_not_intro cw), if_pos (show ¬ fv_gi τ 3 = 4 from fun e => ct ⟨by cases hx : wide; rfl; rw [hx] at cw; exact absurd cw (by decide), e4.1 e⟩)]
        · rw [if_pos cw]
      rw [hd]
      unfold zX8_data_73
      rw [z.2.2.1]
      have lt := Ps_lt hS (qEX_s hS hp) hp
      obtain ⟨A, C, E⟩ := m_ek (N := N) hS hN z hp k sec
      -- the line's fault is the item's
      have flt : ∀ g, qDg B n sec wide L org p = some g → ∀ out, mFx g τ out → mSo B n (qLF B n (qDa B n sec wide L org (f + 1) p).1 (qDa B n sec wide L org (f + 1) p).2.2 (h0 + c + (qDa B n sec wide L org (f + 1) p).2.1.length) q) (qDa B n sec wide L org (f + 1) p).2.2 (fun τ' => mZ B n sec L (h0 + c + (qDa B n sec wide L org (f + 1) p).2.1.length) I org τ' ∧ (sec = true → mMe (qlm (qDa B n sec wide L org (f + 1) p).2.1 M (h0 + c)) τ') ∧ (sec = false → mMs τ τ')) τ out := by
        intro g hg out hF
        have : (qDa B n sec wide L org (f + 1) p).1 = some g := by
          cases ho : qDo B n wide p with
          | inl x => rw [qDa_i ho]; exact hg
          | inr p1 =>
            by_cases c44 : (qT B n p1).1 = 44
            · rw [qDa_c ho c44]; show qoe (qDg B n sec wide L org p) _ = _; rw [hg]; rfl
            · rw [qDa_e ho c44]; exact hg
        rw [this]; exact hF
      cases hgk : (if sec = true then ((qEX B n p).1 (qen L org)).1 else none) with
      | some g =>
        have hs : sec = true := by
          cases hx : sec with
          | true => rfl
          | false => rw [hx, if_neg (by decide)] at hgk; exact absurd hgk (by simp)
        have hg : ((qEX B n p).1 (qen L org)).1 = some g := by rw [if_pos hs] at hgk; exact hgk
        refine flt g ?_ _ (mFx_n (A g hgk) _)
        rw [edg, if_pos hs, hg]
        cases (qEX B n p).2 <;> rfl
      | none =>
        have C := C hgk
        have E := E hgk
        cases ho : (qEX B n p).2 with
        | inl x =>
          have edo' : qDo B n wide p = .inl x := edo.trans ho
          have hgn : qDg B n sec wide L org p = none := by
            rw [edg]
            by_cases hs : sec = true
            · rw [if_pos hs] at hgk ⊢; rw [ho]; exact hgk
            · rw [if_neg hs]
          rw [qDa_i edo', hgn]
          exact mFx_n (C x ho) _
        | inr p1 =>
          have edo' : qDo B n wide p = .inr p1 := edo.trans ho
          have t := lt p1 ho
          have tlt := t.2.2 rfl
          obtain ⟨τ1, x1, f1, k1, z1, hp1, e22⟩ := E p1 ho
          have f4 : fv_gi τ 4 = Int32.ofNat (qT B n p).2.1 := k.1.2.2.1
          rw [x1, fv_bi_ri, if_pos (show ¬ (1 : Int32) = 0 by decide)]
          have e12 : (if q01 wide = 0 then zX8_data_102 N (zX8_data_8 N m) (Int32.ofNat q) (q01 wide) (Int32.ofNat h0) (fv_gi τ 4) (Int32.ofNat c) 1 τ1 else zX8_data_102 N (zX8_data_8 N m) (Int32.ofNat q) (q01 wide) (Int32.ofNat h0) (fv_gi τ 4) (Int32.ofNat c) 2 τ1) = zX8_data_102 N (zX8_data_8 N m) (Int32.ofNat q) (q01 wide) (Int32.ofNat h0) (fv_gi τ 4) (Int32.ofNat c) (Int32.ofNat (if wide = true then 2 else 1)) τ1 := by
            cases wide with
            | true => rw [if_neg (show ¬ q01 true = 0 by decide)]; rfl
            | false => rw [if_pos (show q01 false = 0 by decide)]; rfl
          rw [e12]
          unfold zX8_data_102
          rw [z1.2.2.1, ← Int32.ofNat_add, ← el]
          by_cases hs : sec = true
          · have hl : h0 + c + (qDb B n wide L org p).length ≤ 65536 := by
              have := hh hs
              by_cases c44 : (qT B n p1).1 = 44
              · rw [qDa_c edo' c44] at this; simp only [List.length_append] at this; omega
              · rw [qDa_e edo' c44] at this; exact this
            have hg0 : ((qEX B n p).1 (qen L org)).1 = none := by rw [if_pos hs] at hgk; exact hgk
            have edg' : qDg B n sec wide L org p = if qin ((qEX B n p).1 (qen L org)).2 (qDl wide) (qDh wide) = true then none else some (5, (qT B n p).2.1) := by rw [edg, if_pos hs, hg0, ho]; rfl
            have edb : qDb B n wide L org p = if wide = true then [qoc ((qEX B n p).1 (qen L org)).2, qoc (((qEX B n p).1 (qen L org)).2 >>> 8)] else [qoc ((qEX B n p).1 (qen L org)).2] := by unfold qDb; rw [if_neg ct]
            have e22 := e22 hs
            rw [if_neg (show ¬ q01 sec = 0 by rw [hs]; decide), e22]
            generalize ((qEX B n p).1 (qen L org)).2 = v at edg' edb e22 ⊢
            have bad : qin v (qDl wide) (qDh wide) = false → mSo B n (qLF B n (qDa B n sec wide L org (f + 1) p).1 (qDa B n sec wide L org (f + 1) p).2.2 (h0 + c + (qDa B n sec wide L org (f + 1) p).2.1.length) q) (qDa B n sec wide L org (f + 1) p).2.2 (fun τ' => mZ B n sec L (h0 + c + (qDa B n sec wide L org (f + 1) p).2.1.length) I org τ' ∧ (sec = true → mMe (qlm (qDa B n sec wide L org (f + 1) p).2.1 M (h0 + c)) τ') ∧ (sec = false → mMs τ τ')) τ (zX8_data_156 N (fv_gi τ 4) τ1) := by
              intro hi
              rw [hi, if_neg (by decide)] at edg'
              refine flt _ edg' _ ?_
              unfold zX8_data_156
              rw [f4]
              exact mFx_t (mFo_e f1) (mFx_w z1.2.2.2.2.2.1 (5, (qT B n p).2.1) ⟨by show 1 ≤ 5; omega, by show 5 ≤ 9; omega⟩)
            have good : qin v (qDl wide) (qDh wide) = true → mSo B n (qLF B n (qDa B n sec wide L org (f + 1) p).1 (qDa B n sec wide L org (f + 1) p).2.2 (h0 + c + (qDa B n sec wide L org (f + 1) p).2.1.length) q) (qDa B n sec wide L org (f + 1) p).2.2 (fun τ' => mZ B n sec L (h0 + c + (qDa B n sec wide L org (f + 1) p).2.1.length) I org τ' ∧ (sec = true → mMe (qlm (qDa B n sec wide L org (f + 1) p).2.1 M (h0 + c)) τ') ∧ (sec = false → mMs τ τ')) τ (zX8_data_164 N (zX8_data_8 N m) (Int32.ofNat q) (q01 wide) (Int32.ofNat (c + (qDb B n wide L org p).length)) (Int32.ofNat h0) τ1) := by
              intro hi
              rw [hi, if_pos rfl] at edg'
              have hM1 := mMe_s (hM hs) (mMs_e f1)
              have hBs := hB hs
              rw [if_pos hs] at z1
              unfold zX8_data_164
              rw [e22]
              obtain ⟨τ2, x2, z2, f2, m2⟩ := m_lay z1 hM1 (by rw [el] at hl; split at hl <;> omega) (by omega) v
              rw [x2, fv_bv_rv]
              by_cases hw : wide = true
              · rw [if_pos hw] at el edb
                rw [if_neg (show ¬ q01 wide = 0 by rw [hw]; decide)]
                obtain ⟨τ3, x3, z3, f3, m3⟩ := m_lay z2 m2 (by omega) (by rw [qlm_c]; simp only [List.length_cons, List.length_nil]; omega) (v >>> 8)
                rw [x3, fv_bv_rv]
                have f23 := mFy_t f2 f3
                refine tail p1 _ none τ3 edo' tlt rfl (by omega) edg' (mFo_t (mFo_e f1) (mFo_y f23)) (fun h => by rw [hs] at h; exact absurd h (by decide)) ⟨?_, qMt_y k1 f23, hp1, fun _ => ?_⟩
                · rw [if_pos hs, el]; exact z3
                · rw [edb]; exact m3
              · rw [if_neg hw] at el edb
                rw [if_pos (show q01 wide = 0 by cases hx : wide; rfl; exact absurd hx hw)]
                refine tail p1 _ none τ2 edo' tlt rfl (by omega) edg' (mFo_t (mFo_e f1) (mFo_y f2)) (fun h => by rw [hs] at h; exact absurd h (by decide)) ⟨?_, qMt_y k1 f2, hp1, fun _ => ?_⟩
                · rw [if_pos hs, el]; exact z2
                · rw [edb]; exact m2
            have rg : ∀ a b : Int32, qDl wide = a → qDh wide = b → (if v < a then zX8_data_156 N (fv_gi τ 4) τ1 else if v ≤ b then zX8_data_164 N (zX8_data_8 N m) (Int32.ofNat q) (q01 wide) (Int32.ofNat (c + (qDb B n wide L org p).length)) (Int32.ofNat h0) τ1 else zX8_data_156 N (fv_gi τ 4) τ1) = if qin v (qDl wide) (qDh wide) = true then zX8_data_164 N (zX8_data_8 N m) (Int32.ofNat q) (q01 wide) (Int32.ofNat (c + (qDb B n wide L org p).length)) (Int32.ofNat h0) τ1 else zX8_data_156 N (fv_gi τ 4) τ1 := by
              intro a b ea eb
              rw [ea, eb]
              by_cases c1 : v < a
              · rw [if_pos c1, if_neg (fun e => by have h := of_decide_eq_true e; rw [p_lt] at c1; have := (p_le a v).1 h.1; omega)]
              · rw [if_neg c1]
                by_cases c2 : v ≤ b
                · rw [if_pos c2, if_pos (show qin v a b = true from decide_eq_true ⟨by rw [p_le]; rw [p_lt] at c1; omega, c2⟩)]
                · rw [if_neg c2, if_neg (fun e => c2 (of_decide_eq_true e).2)]
            have fin : mSo B n (qLF B n (qDa B n sec wide L org (f + 1) p).1 (qDa B n sec wide L org (f + 1) p).2.2 (h0 + c + (qDa B n sec wide L org (f + 1) p).2.1.length) q) (qDa B n sec wide L org (f + 1) p).2.2 (fun τ' => mZ B n sec L (h0 + c + (qDa B n sec wide L org (f + 1) p).2.1.length) I org τ' ∧ (sec = true → mMe (qlm (qDa B n sec wide L org (f + 1) p).2.1 M (h0 + c)) τ') ∧ (sec = false → mMs τ τ')) τ (if qin v (qDl wide) (qDh wide) = true then zX8_data_164 N (zX8_data_8 N m) (Int32.ofNat q) (q01 wide) (Int32.ofNat (c + (qDb B n wide L org p).length)) (Int32.ofNat h0) τ1 else zX8_data_156 N (fv_gi τ 4) τ1) := by
              cases hi : qin v (qDl wide) (qDh wide) with
              | true => rw [if_pos rfl]; exact good hi
              | false => rw [if_neg (by decide)]; exact bad hi
            by_cases cw : q01 wide = 0
            · have hw : wide = false := by
                cases hx : wide with
                | false => rfl
                | true => rw [hx] at cw; exact absurd cw (by decide)
              rw [if_pos cw, rg (-128) 255 (by rw [hw]; rfl) (by rw [hw]; rfl)]; exact fin
            · have hw : wide = true := by
                cases hx : wide with
                | true => rfl
                | false => rw [hx] at cw; exact absurd rfl cw
              rw [if_neg cw, rg (-32768) 65535 (by rw [hw]; rfl) (by rw [hw]; rfl)]; exact fin
          · rw [if_pos (show q01 sec = 0 by cases hx : sec; rfl; exact absurd hx hs)]
            have edg' : qDg B n sec wide L org p = none := by rw [edg, if_neg hs]
            rw [if_neg hs] at z1
            refine tail p1 _ none τ1 edo' tlt rfl (by rw [el]; split <;> omega) edg' (mFo_e f1) (fun _ => mMs_e f1) ⟨by rw [if_neg hs]; exact z1, k1, hp1, fun h => absurd h hs⟩
