/-! THE REFERENCE'S READERS: a number within bounds -/
set_option maxRecDepth 100000
theorem flwP_c {B : Int → Int} {L c : Int} {x : P3} (h : x.2.1 = 0) : (flwP B L c x).2.1 = c := by unfold flwP; rw [if_pos h]
theorem advP_c {B : Int → Int} {L : Int} {x : P3} (h : x.2.1 = 0) : (advP B L x).2.1 = 0 := by unfold advP; rw [if_pos h]
theorem advP_n {B : Int → Int} {L : Int} {x : P3} (h : x.2.1 ≠ 0) : advP B L x = x := by unfold advP; rw [if_neg h]
def valM (B : Int → Int) (L q : Int) : Int := valS B (tB B L q) (tN B L q) (tK B L q)
def rdnP (B : Int → Int) (L lo hi : Int) (x : P3) : P3 := if x.2.1 ≠ 0 then x else if tK B L x.1 ≠ 2 then flwP B L 1 x else if ¬ (lo ≤ valM B L x.1 ∧ valM B L x.1 ≤ hi) then flwP B L 2 x else advP B L x
theorem yo_X4_readNumber : yOK yX4_readNumber 2 := by unfold yOK; exact ⟨by decide +kernel, by decide +kernel, by decide +kernel⟩
set_option maxRecDepth 100000 in
theorem m_readNumber {G : GT} {h : AH} {am : Nat} {ad : Nat → Nat} {nmf : Int → Option Nat} {S : Nat → Int} {Ar : Nat → Int → Int} {M : Int → Int} {L : Int} (hr : RefAt G h am ad nmf S (rA Ar 0 M)) {A : Nat → Prop} (hA : ∀ q, RA am ad q → A q) (x : P3) (hx : StS S (Ar 12) L x) (lo hi : Int) (zlo : zR lo) (zhi : zR hi) : CC G yX4_readNumber cX4_readNumber 4 (some .int) ({ frames := 5, cells := 0, slots := 0, locals := 94 } : Room) A [sref am, .inl lo, .inl hi] h (fun v h1 => v = some (.inl (if (rdnP (Ar 12) L lo hi x).2.1 = 0 then valM (Ar 12) L x.1 else lo)) ∧ ∃ S2, RefAt G h1 am ad nmf S2 (rA Ar 0 M) ∧ ScF S2 S ∧ StS S2 (Ar 12) L (rdnP (Ar 12) L lo hi x)) := by
  refine CC.of (by decide +kernel) [(0, sref am), (1, .inl lo), (2, .inl hi)] rfl (Nat.le_of_ble_eq_true rfl) (fun X hnm hO => ?_)
  have hMz : ∀ z, zR (M z) := fun z => hr.zA 0 z
  have hMz : ∀ z, zR (M z) := fun z => hr.zA 0 z
  have hBz : ∀ z, zR (Ar 12 z) := fun z => hr.zA 12 z
  have hSz : ∀ z, zR (S z) := fun z => hr.zS z
  have e18 := hx.2.2.2.1
  refine v_aload_n (pc := 0) hO dX4_readNumber_0 rfl ?_
  refine v_aload_n (pc := 1) hO dX4_readNumber_1 rfl ?_
  refine v_getf (pc := 2) (v := .inl (S 18)) hO cp_X4 18 q2143 hr.ob (by decide) rfl dX4_readNumber_2 ?_
  refine v_if_ne (pc := 5) (tgt := 16) hO dX4_readNumber_5 (by decide) (by first | assumption | exact hSz _ | exact hBz _ | (unfold zR; omega)) (fun c5 => ?_) (fun c5 => ?_)
  · 
    refine v_iconst (pc := 16) hO dX4_readNumber_16 ?_
    refine v_goto (pc := 17) (tgt := 21) hO dX4_readNumber_17 (by decide) ?_
    refine v_iconst (pc := 21) hO dX4_readNumber_21 ?_
    refine v_callV (pc := 22) (b := am) hO cp_X4 hr.ob (m_check hr hA x hx 1 1 (by unfold zR; omega) (by unfold zR; omega) (by decide)) (lw_V q2586 q2588 qs84 q117 q2589) yo_X4_check rfl rfl rfl (by decide) (by decide) (k2 := 0) (n2 := 0) (by decide) (by decide) (by decide) (by decide) dX4_readNumber_22 (fun va hv hp hf1 => ?_)
    obtain ⟨rfl, S_1, hr, hsS_1, hx⟩ := hp
    have hsS_1 := hsS_1.tr (ScF.rf S)
    have hSz : ∀ z, zR (S_1 z) := fun z => hr.zS z
    rw [show chkP (Ar 12) L ((1 : Int) ≠ 0) 1 x = x from if_pos (by decide)] at hx
    have eS_1 := hx.2.2.2.1
    refine v_aload_n (pc := 25) hO dX4_readNumber_25 rfl ?_
    refine v_callV (pc := 26) (b := am) hO cp_X4 hr.ob (m_value hr x hx) (lw_V q2602 q2604 qs88 q117 q2605) yo_X4_value rfl rfl rfl (by decide) (by decide) (k2 := 0) (n2 := 0) (by decide) (by decide) (by decide) (by decide) dX4_readNumber_26 (fun va hv hp hf1 => ?_)
    obtain ⟨z, rfl, hzv, hz01, rfl⟩ := hp
    clear hzv
    refine v_istore_n (pc := 29) hO (lv' := [(3, .inl z), (0, sref am), (1, .inl lo), (2, .inl hi)]) dX4_readNumber_29 (by decide) rfl ?_
    refine v_aload_n (pc := 30) hO dX4_readNumber_30 rfl ?_
    refine v_aload_n (pc := 31) hO dX4_readNumber_31 rfl ?_
    refine v_getf (pc := 32) (v := .inl (S_1 18)) hO cp_X4 18 q2143 hr.ob (by decide) rfl dX4_readNumber_32 ?_
    refine v_if_ne (pc := 35) (tgt := 47) hO dX4_readNumber_35 (by decide) (by first | assumption | exact hSz _ | exact hBz _ | (unfold zR; omega)) (fun c35 => ?_) (fun c35 => absurd c35 (by omega))
    refine v_iconst (pc := 47) hO dX4_readNumber_47 ?_
    refine v_goto (pc := 48) (tgt := 52) hO dX4_readNumber_48 (by decide) ?_
    refine v_iconst (pc := 52) hO dX4_readNumber_52 ?_
    refine v_callV (pc := 53) (b := am) hO cp_X4 hr.ob (m_check hr hA x hx 1 2 (by unfold zR; omega) (by unfold zR; omega) (by decide)) (lw_V q2586 q2588 qs84 q117 q2589) yo_X4_check rfl rfl rfl (by decide) (by decide) (k2 := 0) (n2 := 0) (by decide) (by decide) (by decide) (by decide) dX4_readNumber_53 (fun va hv hp hf1 => ?_)
    obtain ⟨rfl, S_2, hr, hsS_2, hx⟩ := hp
    have hsS_2 := hsS_2.tr (hsS_1)
    have hSz : ∀ z, zR (S_2 z) := fun z => hr.zS z
    rw [show chkP (Ar 12) L ((1 : Int) ≠ 0) 2 x = x from if_pos (by decide)] at hx
    have eS_2 := hx.2.2.2.1
    refine v_aload_n (pc := 56) hO dX4_readNumber_56 rfl ?_
    refine v_callV (pc := 57) (b := am) hO cp_X4 hr.ob (m_advance hr hA x hx) (lw_V q2594 q2596 qs86 q117 q2597) yo_X4_advance rfl rfl rfl (by decide) (by decide) (k2 := 0) (n2 := 0) (by decide) (by decide) (by decide) (by decide) dX4_readNumber_57 (fun va hv hp hf1 => ?_)
    obtain ⟨rfl, S_3, hr, hsS_3, hx⟩ := hp
    have hsS_3 := hsS_3.tr (hsS_2)
    have hSz : ∀ z, zR (S_3 z) := fun z => hr.zS z
    rw [advP_n (show (x).2.1 ≠ 0 by omega)] at hx
    have eS_3 := hx.2.2.2.1
    refine v_aload_n (pc := 60) hO dX4_readNumber_60 rfl ?_
    refine v_getf (pc := 61) (v := .inl (S_3 18)) hO cp_X4 18 q2143 hr.ob (by decide) rfl dX4_readNumber_61 ?_
    refine v_if_ne (pc := 64) (tgt := 71) hO dX4_readNumber_64 (by decide) (by first | assumption | exact hSz _ | exact hBz _ | (unfold zR; omega)) (fun c64 => ?_) (fun c64 => absurd c64 (by omega))
    refine v_iload_n (pc := 71) hO dX4_readNumber_71 rfl ?_
    exact v_iret hO dX4_readNumber_72 rfl (Nat.le_of_ble_eq_true rfl) (Nat.le_of_ble_eq_true rfl) ⟨congrArg (fun z => some (Sum.inl z)) (by have er : rdnP (Ar 12) L lo hi x = x := if_pos (by omega); rw [er, if_neg (by omega)]), _, hr, hsS_3, by have er : rdnP (Ar 12) L lo hi x = x := if_pos (by omega); rw [er]; exact hx⟩
  · have hgd := hx.good (by omega)
    refine v_aload_n (pc := 8) hO dX4_readNumber_8 rfl ?_
    refine v_getf (pc := 9) (v := .inl (S 17)) hO cp_X4 17 q2142 hr.ob (by decide) rfl dX4_readNumber_9 ?_
    refine v_iconst (pc := 12) hO dX4_readNumber_12 ?_
    refine v_icmp_ne (pc := 13) (tgt := 20) hO dX4_readNumber_13 (by decide) (by first | assumption | exact hSz _ | exact hBz _ | (unfold zR; omega)) (by first | assumption | exact hSz _ | exact hBz _ | (unfold zR; omega)) (fun c13 => ?_) (fun c13 => ?_)
    · 
      refine v_iconst (pc := 20) hO dX4_readNumber_20 ?_
      refine v_iconst (pc := 21) hO dX4_readNumber_21 ?_
      refine v_callV (pc := 22) (b := am) hO cp_X4 hr.ob (m_check hr hA x hx 0 1 (by unfold zR; omega) (by unfold zR; omega) (by decide)) (lw_V q2586 q2588 qs84 q117 q2589) yo_X4_check rfl rfl rfl (by decide) (by decide) (k2 := 0) (n2 := 0) (by decide) (by decide) (by decide) (by decide) dX4_readNumber_22 (fun va hv hp hf1 => ?_)
      obtain ⟨rfl, S_4, hr, hsS_4, hx⟩ := hp
      have hsS_4 := hsS_4.tr (ScF.rf S)
      have hSz : ∀ z, zR (S_4 z) := fun z => hr.zS z
      rw [show chkP (Ar 12) L ((0 : Int) ≠ 0) 1 x = flwP (Ar 12) L 1 x from if_neg (by decide)] at hx
      have efS_4 := flwP_c (B := Ar 12) (L := L) (c := 1) (x := x) (by omega)
      have eS_4 := hx.2.2.2.1
      refine v_aload_n (pc := 25) hO dX4_readNumber_25 rfl ?_
      refine v_callV (pc := 26) (b := am) hO cp_X4 hr.ob (m_value hr (flwP (Ar 12) L 1 x) hx) (lw_V q2602 q2604 qs88 q117 q2605) yo_X4_value rfl rfl rfl (by decide) (by decide) (k2 := 0) (n2 := 0) (by decide) (by decide) (by decide) (by decide) dX4_readNumber_26 (fun va hv hp hf1 => ?_)
      obtain ⟨z, rfl, hzv, hz01, rfl⟩ := hp
      clear hzv
      refine v_istore_n (pc := 29) hO (lv' := [(3, .inl z), (0, sref am), (1, .inl lo), (2, .inl hi)]) dX4_readNumber_29 (by decide) rfl ?_
      refine v_aload_n (pc := 30) hO dX4_readNumber_30 rfl ?_
      refine v_aload_n (pc := 31) hO dX4_readNumber_31 rfl ?_
      refine v_getf (pc := 32) (v := .inl (S_4 18)) hO cp_X4 18 q2143 hr.ob (by decide) rfl dX4_readNumber_32 ?_
      refine v_if_ne (pc := 35) (tgt := 47) hO dX4_readNumber_35 (by decide) (by first | assumption | exact hSz _ | exact hBz _ | (unfold zR; omega)) (fun c35 => ?_) (fun c35 => absurd c35 (by omega))
      refine v_iconst (pc := 47) hO dX4_readNumber_47 ?_
      refine v_goto (pc := 48) (tgt := 52) hO dX4_readNumber_48 (by decide) ?_
      refine v_iconst (pc := 52) hO dX4_readNumber_52 ?_
      refine v_callV (pc := 53) (b := am) hO cp_X4 hr.ob (m_check hr hA (flwP (Ar 12) L 1 x) hx 1 2 (by unfold zR; omega) (by unfold zR; omega) (by decide)) (lw_V q2586 q2588 qs84 q117 q2589) yo_X4_check rfl rfl rfl (by decide) (by decide) (k2 := 0) (n2 := 0) (by decide) (by decide) (by decide) (by decide) dX4_readNumber_53 (fun va hv hp hf1 => ?_)
      obtain ⟨rfl, S_5, hr, hsS_5, hx⟩ := hp
      have hsS_5 := hsS_5.tr (hsS_4)
      have hSz : ∀ z, zR (S_5 z) := fun z => hr.zS z
      rw [show chkP (Ar 12) L ((1 : Int) ≠ 0) 2 (flwP (Ar 12) L 1 x) = (flwP (Ar 12) L 1 x) from if_pos (by decide)] at hx
      have eS_5 := hx.2.2.2.1
      refine v_aload_n (pc := 56) hO dX4_readNumber_56 rfl ?_
      refine v_callV (pc := 57) (b := am) hO cp_X4 hr.ob (m_advance hr hA (flwP (Ar 12) L 1 x) hx) (lw_V q2594 q2596 qs86 q117 q2597) yo_X4_advance rfl rfl rfl (by decide) (by decide) (k2 := 0) (n2 := 0) (by decide) (by decide) (by decide) (by decide) dX4_readNumber_57 (fun va hv hp hf1 => ?_)
      obtain ⟨rfl, S_6, hr, hsS_6, hx⟩ := hp
      have hsS_6 := hsS_6.tr (hsS_5)
      have hSz : ∀ z, zR (S_6 z) := fun z => hr.zS z
      rw [advP_n (show ((flwP (Ar 12) L 1 x)).2.1 ≠ 0 by omega)] at hx
      have eS_6 := hx.2.2.2.1
      refine v_aload_n (pc := 60) hO dX4_readNumber_60 rfl ?_
      refine v_getf (pc := 61) (v := .inl (S_6 18)) hO cp_X4 18 q2143 hr.ob (by decide) rfl dX4_readNumber_61 ?_
      refine v_if_ne (pc := 64) (tgt := 71) hO dX4_readNumber_64 (by decide) (by first | assumption | exact hSz _ | exact hBz _ | (unfold zR; omega)) (fun c64 => ?_) (fun c64 => absurd c64 (by omega))
      refine v_iload_n (pc := 71) hO dX4_readNumber_71 rfl ?_
      exact v_iret hO dX4_readNumber_72 rfl (Nat.le_of_ble_eq_true rfl) (Nat.le_of_ble_eq_true rfl) ⟨congrArg (fun z => some (Sum.inl z)) (by have er : rdnP (Ar 12) L lo hi x = (flwP (Ar 12) L 1 x) := (if_neg (by omega)).trans (if_pos (by omega)); rw [er, if_neg (by omega)]), _, hr, hsS_6, by have er : rdnP (Ar 12) L lo hi x = (flwP (Ar 12) L 1 x) := (if_neg (by omega)).trans (if_pos (by omega)); rw [er]; exact hx⟩
    · 
      refine v_iconst (pc := 16) hO dX4_readNumber_16 ?_
      refine v_goto (pc := 17) (tgt := 21) hO dX4_readNumber_17 (by decide) ?_
      refine v_iconst (pc := 21) hO dX4_readNumber_21 ?_
      refine v_callV (pc := 22) (b := am) hO cp_X4 hr.ob (m_check hr hA x hx 1 1 (by unfold zR; omega) (by unfold zR; omega) (by decide)) (lw_V q2586 q2588 qs84 q117 q2589) yo_X4_check rfl rfl rfl (by decide) (by decide) (k2 := 0) (n2 := 0) (by decide) (by decide) (by decide) (by decide) dX4_readNumber_22 (fun va hv hp hf1 => ?_)
      obtain ⟨rfl, S_7, hr, hsS_7, hx⟩ := hp
      have hsS_7 := hsS_7.tr (ScF.rf S)
      have hSz : ∀ z, zR (S_7 z) := fun z => hr.zS z
      rw [show chkP (Ar 12) L ((1 : Int) ≠ 0) 1 x = x from if_pos (by decide)] at hx
      have eS_7 := hx.2.2.2.1
      refine v_aload_n (pc := 25) hO dX4_readNumber_25 rfl ?_
      refine v_callV (pc := 26) (b := am) hO cp_X4 hr.ob (m_value hr x hx) (lw_V q2602 q2604 qs88 q117 q2605) yo_X4_value rfl rfl rfl (by decide) (by decide) (k2 := 0) (n2 := 0) (by decide) (by decide) (by decide) (by decide) dX4_readNumber_26 (fun va hv hp hf1 => ?_)
      obtain ⟨z, rfl, hzv, hz01, rfl⟩ := hp
      have hzm : z = valM (Ar 12) L x.1 := (by have g9 := hx.good (by omega); rw [hzv, g9.2.2.2.1, g9.2.2.2.2.1, g9.2.2.2.2.2]; rfl)
      refine v_istore_n (pc := 29) hO (lv' := [(3, .inl z), (0, sref am), (1, .inl lo), (2, .inl hi)]) dX4_readNumber_29 (by decide) rfl ?_
      refine v_aload_n (pc := 30) hO dX4_readNumber_30 rfl ?_
      refine v_aload_n (pc := 31) hO dX4_readNumber_31 rfl ?_
      refine v_getf (pc := 32) (v := .inl (S_7 18)) hO cp_X4 18 q2143 hr.ob (by decide) rfl dX4_readNumber_32 ?_
      refine v_if_ne (pc := 35) (tgt := 47) hO dX4_readNumber_35 (by decide) (by first | assumption | exact hSz _ | exact hBz _ | (unfold zR; omega)) (fun c35 => absurd c35 (by omega)) (fun c35 => ?_)
      refine v_iload_n (pc := 38) hO dX4_readNumber_38 rfl ?_
      refine v_iload_n (pc := 39) hO dX4_readNumber_39 rfl ?_
      refine v_iload_n (pc := 40) hO dX4_readNumber_40 rfl ?_
      refine v_callS (pc := 41) hO (m_inRange z lo hi (by first | assumption | exact hr.zA 0 _ | exact hr.zA 8 _ | exact hr.zA 9 _ | exact hr.zS _ | exact hMz _ | exact hMz1 _ | (unfold zR; omega)) (by first | assumption | exact hr.zA 0 _ | exact hr.zA 8 _ | exact hr.zA 9 _ | exact hr.zS _ | exact hMz _ | exact hMz1 _ | (unfold zR; omega)) (by first | assumption | exact hr.zA 0 _ | exact hr.zA 8 _ | exact hr.zA 9 _ | exact hr.zS _ | exact hMz _ | exact hMz1 _ | (unfold zR; omega))) (lw_S q2219 q2220 q117 q2221) yo_X4_inRange rfl rfl (by decide) (by decide) (k2 := 0) (n2 := 0) (by decide) (by decide) (by decide) (by decide) dX4_readNumber_41 (fun va hv hp hf1 => ?_)
      obtain ⟨rfl, rfl⟩ := hp
      refine v_ifb_eq (pc := 44) (tgt := 51) hO dX4_readNumber_44 (by decide) (fun c44 => ?_) (fun c44 => ?_)
      · refine v_iconst (pc := 51) hO dX4_readNumber_51 ?_
        refine v_iconst (pc := 52) hO dX4_readNumber_52 ?_
        refine v_callV (pc := 53) (b := am) hO cp_X4 hr.ob (m_check hr hA x hx 0 2 (by unfold zR; omega) (by unfold zR; omega) (by decide)) (lw_V q2586 q2588 qs84 q117 q2589) yo_X4_check rfl rfl rfl (by decide) (by decide) (k2 := 0) (n2 := 0) (by decide) (by decide) (by decide) (by decide) dX4_readNumber_53 (fun va hv hp hf1 => ?_)
        obtain ⟨rfl, S_8, hr, hsS_8, hx⟩ := hp
        have hsS_8 := hsS_8.tr (hsS_7)
        have hSz : ∀ z, zR (S_8 z) := fun z => hr.zS z
        rw [show chkP (Ar 12) L ((0 : Int) ≠ 0) 2 x = flwP (Ar 12) L 2 x from if_neg (by decide)] at hx
        have efS_8 := flwP_c (B := Ar 12) (L := L) (c := 2) (x := x) (by omega)
        have eS_8 := hx.2.2.2.1
        refine v_aload_n (pc := 56) hO dX4_readNumber_56 rfl ?_
        refine v_callV (pc := 57) (b := am) hO cp_X4 hr.ob (m_advance hr hA (flwP (Ar 12) L 2 x) hx) (lw_V q2594 q2596 qs86 q117 q2597) yo_X4_advance rfl rfl rfl (by decide) (by decide) (k2 := 0) (n2 := 0) (by decide) (by decide) (by decide) (by decide) dX4_readNumber_57 (fun va hv hp hf1 => ?_)
        obtain ⟨rfl, S_9, hr, hsS_9, hx⟩ := hp
        have hsS_9 := hsS_9.tr (hsS_8)
        have hSz : ∀ z, zR (S_9 z) := fun z => hr.zS z
        rw [advP_n (show ((flwP (Ar 12) L 2 x)).2.1 ≠ 0 by omega)] at hx
        have eS_9 := hx.2.2.2.1
        refine v_aload_n (pc := 60) hO dX4_readNumber_60 rfl ?_
        refine v_getf (pc := 61) (v := .inl (S_9 18)) hO cp_X4 18 q2143 hr.ob (by decide) rfl dX4_readNumber_61 ?_
        refine v_if_ne (pc := 64) (tgt := 71) hO dX4_readNumber_64 (by decide) (by first | assumption | exact hSz _ | exact hBz _ | (unfold zR; omega)) (fun c64 => ?_) (fun c64 => absurd c64 (by omega))
        refine v_iload_n (pc := 71) hO dX4_readNumber_71 rfl ?_
        exact v_iret hO dX4_readNumber_72 rfl (Nat.le_of_ble_eq_true rfl) (Nat.le_of_ble_eq_true rfl) ⟨congrArg (fun z => some (Sum.inl z)) (by have er : rdnP (Ar 12) L lo hi x = (flwP (Ar 12) L 2 x) := (if_neg (by omega)).trans ((if_neg (by omega)).trans (if_pos (by omega))); rw [er, if_neg (by omega)]), _, hr, hsS_9, by have er : rdnP (Ar 12) L lo hi x = (flwP (Ar 12) L 2 x) := (if_neg (by omega)).trans ((if_neg (by omega)).trans (if_pos (by omega))); rw [er]; exact hx⟩
      · refine v_iconst (pc := 47) hO dX4_readNumber_47 ?_
        refine v_goto (pc := 48) (tgt := 52) hO dX4_readNumber_48 (by decide) ?_
        refine v_iconst (pc := 52) hO dX4_readNumber_52 ?_
        refine v_callV (pc := 53) (b := am) hO cp_X4 hr.ob (m_check hr hA x hx 1 2 (by unfold zR; omega) (by unfold zR; omega) (by decide)) (lw_V q2586 q2588 qs84 q117 q2589) yo_X4_check rfl rfl rfl (by decide) (by decide) (k2 := 0) (n2 := 0) (by decide) (by decide) (by decide) (by decide) dX4_readNumber_53 (fun va hv hp hf1 => ?_)
        obtain ⟨rfl, S_10, hr, hsS_10, hx⟩ := hp
        have hsS_10 := hsS_10.tr (hsS_7)
        have hSz : ∀ z, zR (S_10 z) := fun z => hr.zS z
        rw [show chkP (Ar 12) L ((1 : Int) ≠ 0) 2 x = x from if_pos (by decide)] at hx
        have eS_10 := hx.2.2.2.1
        refine v_aload_n (pc := 56) hO dX4_readNumber_56 rfl ?_
        refine v_callV (pc := 57) (b := am) hO cp_X4 hr.ob (m_advance hr hA x hx) (lw_V q2594 q2596 qs86 q117 q2597) yo_X4_advance rfl rfl rfl (by decide) (by decide) (k2 := 0) (n2 := 0) (by decide) (by decide) (by decide) (by decide) dX4_readNumber_57 (fun va hv hp hf1 => ?_)
        obtain ⟨rfl, S_11, hr, hsS_11, hx⟩ := hp
        have hsS_11 := hsS_11.tr (hsS_10)
        have hSz : ∀ z, zR (S_11 z) := fun z => hr.zS z
        have eaS_11 := advP_c (B := Ar 12) (L := L) (x := x) (by omega)
        have eS_11 := hx.2.2.2.1
        refine v_aload_n (pc := 60) hO dX4_readNumber_60 rfl ?_
        refine v_getf (pc := 61) (v := .inl (S_11 18)) hO cp_X4 18 q2143 hr.ob (by decide) rfl dX4_readNumber_61 ?_
        refine v_if_ne (pc := 64) (tgt := 71) hO dX4_readNumber_64 (by decide) (by first | assumption | exact hSz _ | exact hBz _ | (unfold zR; omega)) (fun c64 => absurd c64 (by omega)) (fun c64 => ?_)
        refine v_iload_n (pc := 67) hO dX4_readNumber_67 rfl ?_
        refine v_goto (pc := 68) (tgt := 72) hO dX4_readNumber_68 (by decide) ?_
        exact v_iret hO dX4_readNumber_72 rfl (Nat.le_of_ble_eq_true rfl) (Nat.le_of_ble_eq_true rfl) ⟨congrArg (fun z => some (Sum.inl z)) (by have er : rdnP (Ar 12) L lo hi x = (advP (Ar 12) L x) := (if_neg (by omega)).trans ((if_neg (by omega)).trans (if_neg (by omega))); rw [er, if_pos (by omega)]; exact hzm), _, hr, hsS_11, by have er : rdnP (Ar 12) L lo hi x = (advP (Ar 12) L x) := (if_neg (by omega)).trans ((if_neg (by omega)).trans (if_neg (by omega))); rw [er]; exact hx⟩
