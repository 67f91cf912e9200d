/-! THE REFERENCE'S READERS: words taken, numbers, the buffer -/
set_option maxRecDepth 100000
def accP (B : Int → Int) (L : Int) (bs : List Int) (x : P3) : P3 := if wrdP B L bs x then advP B L x else x
theorem wrdP.g {B : Int → Int} {L : Int} {bs : List Int} {x : P3} (h : wrdP B L bs x) : x.2.1 = 0 ∧ tK B L x.1 = 1 := by
  have h2 : wrdB B L x bs = true := h
  unfold wrdB at h2
  rw [Bool.and_eq_true] at h2
  have h3 := of_decide_eq_true h2.1
  exact ⟨h3.1, h3.2.1⟩
def numF (B : Int → Int) (k v : Int) : Int := minI 2000000000 (10 * v + B k - 48)
def valS (B : Int → Int) (b e t : Int) : Int := if t = 2 then itI (numF B) (e - b).toNat b 0 else 0
theorem yo_X4_accept : yOK yX4_accept 1 := by unfold yOK; exact ⟨by decide +kernel, by decide +kernel, by decide +kernel⟩
set_option maxRecDepth 100000 in
theorem m_accept {G : GT} {h : AH} {am : Nat} {ad : Nat → Nat} {nmf : Int → Option Nat} {S : Nat → Int} {Ar : Nat → Int → Int} {M : Int → Int} {L : Int} (hr : RefAt G h am ad nmf S (rA Ar 0 M)) {A : Nat → Prop} (hA : ∀ q, RA am ad q → A q) (x : P3) (hx : StS S (Ar 12) L x) {t v : Nat} {bs : List Int} {hs0 hz0 : Int} (hs : StrV G h t v bs hs0 hz0) : CC G yX4_accept cX4_accept 3 (some .boolean) ({ frames := 6, cells := 0, slots := 0, locals := 120 } : Room) A [sref am, sref t] h (fun v h1 => v = some (.inl (b2i (decide (wrdP (Ar 12) L bs x)))) ∧ ∃ S2, RefAt G h1 am ad nmf S2 (rA Ar 0 M) ∧ ScF S2 S ∧ StS S2 (Ar 12) L (accP (Ar 12) L bs x)) := by
  refine CC.of (by decide +kernel) [(0, sref am), (1, sref t)] rfl (Nat.le_of_ble_eq_true rfl) (fun X hnm hO => ?_)
  have hMz : ∀ z, zR (M z) := fun z => hr.zA 0 z
  have hMz : ∀ z, zR (M z) := fun z => hr.zA 0 z
  have hBz : ∀ z, zR (Ar 12 z) := fun z => hr.zA 12 z
  have hSz : ∀ z, zR (S z) := fun z => hr.zS z
  refine v_aload_n (pc := 0) hO dX4_accept_0 rfl ?_
  refine v_aload_n (pc := 1) hO dX4_accept_1 rfl ?_
  refine v_callV (pc := 2) (b := am) hO cp_X4 hr.ob (m_isWord hr x hx hs) (lw_V q2580 q2582 qs83 q117 q2583) yo_X4_isWord rfl rfl rfl (by decide) (by decide) (k2 := 0) (n2 := 0) (by decide) (by decide) (by decide) (by decide) dX4_accept_2 (fun va hv hp hf1 => ?_)
  obtain ⟨rfl, rfl⟩ := hp
  refine v_istore_n (pc := 5) hO (lv' := [(2, .inl (b2i (decide (wrdP (Ar 12) L bs x)))), (0, sref am), (1, sref t)]) dX4_accept_5 (by decide) rfl ?_
  refine v_iload_n (pc := 6) hO dX4_accept_6 rfl ?_
  refine v_ifb_eq (pc := 7) (tgt := 14) hO dX4_accept_7 (by decide) (fun c7 => ?_) (fun c7 => ?_)
  · refine v_iload_n (pc := 14) hO dX4_accept_14 rfl ?_
    exact v_zret hO dX4_accept_15 rfl (nar_z (b2i_c _)) (Nat.le_of_ble_eq_true rfl) (Nat.le_of_ble_eq_true rfl) ⟨rfl, S, hr, ScF.rf S, by unfold accP; rw [if_neg c7]; exact hx⟩
  · have e18 : S 18 = 0 := (by have := hx.2.2.2.1; have := (wrdP.g c7).1; omega)
    refine v_aload_n (pc := 10) hO dX4_accept_10 rfl ?_
    refine v_callV (pc := 11) (b := am) hO cp_X4 hr.ob (m_scan hr hA (by have := hx.1; have := hx.2.1; omega) (by have := hx.1; have := hx.2.2.1; omega) (by have := hx.2.2.2.2.1; omega) (by have := hx.1; have := hx.2.2.2.2.1; omega)) (lw_V q2555 q2557 qs77 q117 q2558) yo_X4_scan rfl rfl rfl (by decide) (by decide) (k2 := 0) (n2 := 0) (by decide) (by decide) (by decide) (by decide) dX4_accept_11 (fun va hv hp hf1 => ?_)
    obtain ⟨rfl, hr⟩ := hp
    have eL := hx.1
    refine v_iload_n (pc := 14) hO dX4_accept_14 rfl ?_
    exact v_zret hO dX4_accept_15 rfl (nar_z (b2i_c _)) (Nat.le_of_ble_eq_true rfl) (Nat.le_of_ble_eq_true rfl) ⟨rfl, _, hr, (((ScF.rf S).st (by decide)).st (by decide)).st (by decide), by unfold accP; rw [if_pos c7]; have e9 := hx.adv (by omega); rw [← eL] at e9 ⊢; exact e9⟩
theorem yo_X4_expectWord : yOK yX4_expectWord 1 := by unfold yOK; exact ⟨by decide +kernel, by decide +kernel, by decide +kernel⟩
set_option maxRecDepth 100000 in
theorem m_expectWord {G : GT} {h : AH} {am : Nat} {ad : Nat → Nat} {nmf : Int → Option Nat} {S : Nat → Int} {Ar : Nat → Int → Int} {M : Int → Int} {L : Int} (hr : RefAt G h am ad nmf S (rA Ar 0 M)) {A : Nat → Prop} (hA : ∀ q, RA am ad q → A q) (x : P3) (hx : StS S (Ar 12) L x) {t v : Nat} {bs : List Int} {hs0 hz0 : Int} (hs : StrV G h t v bs hs0 hz0) : CC G yX4_expectWord cX4_expectWord 2 (none) ({ frames := 6, cells := 0, slots := 0, locals := 120 } : Room) A [sref am, sref t] h (fun v h1 => v = none ∧ ∃ S2, RefAt G h1 am ad nmf S2 (rA Ar 0 M) ∧ ScF S2 S ∧ StS S2 (Ar 12) L (advP (Ar 12) L (chkP (Ar 12) L (wrdP (Ar 12) L bs x) 1 x))) := by
  refine CC.of (by decide +kernel) [(0, sref am), (1, sref t)] rfl (Nat.le_of_ble_eq_true rfl) (fun X hnm hO => ?_)
  have hMz : ∀ z, zR (M z) := fun z => hr.zA 0 z
  have hMz : ∀ z, zR (M z) := fun z => hr.zA 0 z
  have hBz : ∀ z, zR (Ar 12 z) := fun z => hr.zA 12 z
  have hSz : ∀ z, zR (S z) := fun z => hr.zS z
  refine v_aload_n (pc := 0) hO dX4_expectWord_0 rfl ?_
  refine v_aload_n (pc := 1) hO dX4_expectWord_1 rfl ?_
  refine v_aload_n (pc := 2) hO dX4_expectWord_2 rfl ?_
  refine v_callV (pc := 3) (b := am) hO cp_X4 hr.ob (m_isWord hr x hx hs) (lw_V q2580 q2582 qs83 q117 q2583) yo_X4_isWord rfl rfl rfl (by decide) (by decide) (k2 := 0) (n2 := 0) (by decide) (by decide) (by decide) (by decide) dX4_expectWord_3 (fun va hv hp hf1 => ?_)
  obtain ⟨rfl, rfl⟩ := hp
  refine v_iconst (pc := 6) hO dX4_expectWord_6 ?_
  refine v_callV (pc := 7) (b := am) hO cp_X4 hr.ob (m_check hr hA x hx (b2i (decide (wrdP (Ar 12) L bs x))) 1 (by first | exact b2i_R _ | assumption | (unfold zR; omega)) (by first | exact b2i_R _ | assumption | (unfold zR; omega)) (by decide)) (lw_V q2586 q2588 qs84 q117 q2589) yo_X4_check rfl rfl rfl (by decide) (by decide) (k2 := 0) (n2 := 0) (by decide) (by decide) (by decide) (by decide) dX4_expectWord_7 (fun va hv hp hf1 => ?_)
  obtain ⟨rfl, S_1, hr, hsS_1, hx⟩ := hp
  have hsS_1 := hsS_1.tr (ScF.rf S)
  have hSz : ∀ z, zR (S_1 z) := fun z => hr.zS z
  refine v_aload_n (pc := 10) hO dX4_expectWord_10 rfl ?_
  refine v_callV (pc := 11) (b := am) hO cp_X4 hr.ob (m_advance hr hA (chkP (Ar 12) L ((b2i (decide (wrdP (Ar 12) L bs x))) ≠ 0) 1 x) hx) (lw_V q2594 q2596 qs86 q117 q2597) yo_X4_advance rfl rfl rfl (by decide) (by decide) (k2 := 0) (n2 := 0) (by decide) (by decide) (by decide) (by decide) dX4_expectWord_11 (fun va hv hp hf1 => ?_)
  obtain ⟨rfl, S_2, hr, hsS_2, hx⟩ := hp
  have hsS_2 := hsS_2.tr (hsS_1)
  have hSz : ∀ z, zR (S_2 z) := fun z => hr.zS z
  exact v_vret hO dX4_expectWord_14 rfl (Nat.le_of_ble_eq_true rfl) (Nat.le_of_ble_eq_true rfl) ⟨rfl, _, hr, hsS_2, by rw [chkP_b] at hx; exact hx⟩
theorem yo_X4_value : yOK yX4_value 0 := by unfold yOK; exact ⟨by decide +kernel, by decide +kernel, by decide +kernel⟩
set_option maxRecDepth 100000 in
theorem m_value {G : GT} {h : AH} {am : Nat} {ad : Nat → Nat} {nmf : Int → Option Nat} {S : Nat → Int} {Ar : Nat → Int → Int} {M : Int → Int} {L : Int} (hr : RefAt G h am ad nmf S (rA Ar 0 M)) {A : Nat → Prop} (x : P3) (hx : StS S (Ar 12) L x) : CC G yX4_value cX4_value 3 (some .int) ({ frames := 1, cells := 0, slots := 0, locals := 23 } : Room) A [sref am] h (fun v h1 => ∃ z, v = some (.inl z) ∧ z = valS (Ar 12) (S 16) (S 15) (S 17) ∧ (0 ≤ z ∧ z ≤ 2000000000) ∧ h = h1) := by
  refine CC.of (by decide +kernel) [(0, sref am)] rfl (Nat.le_of_ble_eq_true rfl) (fun X hnm hO => ?_)
  have hMz : ∀ z, zR (M z) := fun z => hr.zA 0 z
  have hBz : ∀ z, zR (Ar 12 z) := fun z => hr.zA 12 z
  have hSz : ∀ z, zR (S z) := fun z => hr.zS z
  have hxl := hx.2.2.2.2.1
  have hxl2 := hx.2.2.1
  have hxd := hx.2.2.2.2.2.2.1
  refine v_iconst (pc := 0) hO dX4_value_0 ?_
  refine v_istore_n (pc := 1) hO (lv' := [(1, .inl 0), (0, sref am)]) dX4_value_1 (by decide) rfl ?_
  refine v_aload_n (pc := 2) hO dX4_value_2 rfl ?_
  refine v_getf (pc := 3) (v := .inl (S 16)) hO cp_X4 16 q2141 hr.ob (by decide) rfl dX4_value_3 ?_
  refine v_istore_n (pc := 6) hO (lv' := [(2, .inl (S 16)), (1, .inl 0), (0, sref am)]) dX4_value_6 (by decide) rfl ?_
  refine v_pick (lv2 := [(0, sref am), (1, .inl 0), (2, .inl ((S 16)))]) [2, 1, 0] rfl ?_
  refine v_loop (σ := Int × Int) (fun (k, a) => S 16 ≤ k ∧ k ≤ S 15 ∧ 0 ≤ a ∧ a ≤ 2000000000 ∧ (S 17 ≠ 2 → a = 0) ∧ valS (Ar 12) (S 16) (S 15) (S 17) = if S 17 = 2 then itI (numF (Ar 12)) (S 15 - k).toNat k a else 0) (fun (k, a) => (S 15 - k).toNat) (fun (k, a) => h) (fun (k, a) => [(0, sref am), (1, .inl a), (2, .inl k)]) (S 16, 0) ⟨Int.le_refl _, (by omega), (by decide), (by decide), (fun _ => rfl), rfl⟩ ?_
  rintro ⟨k, a⟩ ⟨hk0, hk1, ha0, ha1, hz, hg⟩ ih
  show VV X G A _ _ _ h _ _ 7 [(0, sref am), (1, .inl a), (2, .inl k)] []
  refine v_iload_n (pc := 7) hO dX4_value_7 rfl ?_
  refine v_aload_n (pc := 8) hO dX4_value_8 rfl ?_
  refine v_getf (pc := 9) (v := .inl (S 15)) hO cp_X4 15 q2140 hr.ob (by decide) rfl dX4_value_9 ?_
  refine v_icmp_ge (pc := 12) (tgt := 55) hO dX4_value_12 (by decide) (by first | assumption | exact hSz _ | exact hBz _ | (unfold zR; omega)) (by first | assumption | exact hSz _ | exact hBz _ | (unfold zR; omega)) (fun c12 => ?_) (fun c12 => ?_)
  · refine v_iload_n (pc := 55) hO dX4_value_55 rfl ?_
    exact v_iret hO dX4_value_56 rfl (Nat.le_of_ble_eq_true rfl) (Nat.le_of_ble_eq_true rfl) ⟨a, rfl, (by rw [hg]; split <;> first | (rw [itI_e (by omega)]) | (exact hz (by omega)) | (exact absurd (by assumption) (by assumption))), ⟨ha0, ha1⟩, rfl⟩
  · refine v_aload_n (pc := 15) hO dX4_value_15 rfl ?_
    refine v_getf (pc := 16) (v := .inl (S 17)) hO cp_X4 17 q2142 hr.ob (by decide) rfl dX4_value_16 ?_
    refine v_iconst (pc := 19) hO dX4_value_19 ?_
    refine v_icmp_ne (pc := 20) (tgt := 55) hO dX4_value_20 (by decide) (by first | assumption | exact hSz _ | exact hBz _ | (unfold zR; omega)) (by first | assumption | exact hSz _ | exact hBz _ | (unfold zR; omega)) (fun c20 => ?_) (fun c20 => ?_)
    · refine v_iload_n (pc := 55) hO dX4_value_55 rfl ?_
      exact v_iret hO dX4_value_56 rfl (Nat.le_of_ble_eq_true rfl) (Nat.le_of_ble_eq_true rfl) ⟨a, rfl, (by rw [hg]; split <;> first | (rw [itI_e (by omega)]) | (exact hz (by omega)) | (exact absurd (by assumption) (by assumption))), ⟨ha0, ha1⟩, rfl⟩
    · have hdk := hxd (by omega) k (by omega) (by omega)
      refine v_ldc2 (pc := 23) hO (z := 2000000000) dX4_value_23 q2606 (by decide +kernel) ?_
      refine v_ldc2 (pc := 26) hO (z := 10) dX4_value_26 q2607 (by decide +kernel) ?_
      refine v_iload_n (pc := 29) hO dX4_value_29 rfl ?_
      refine v_i2l (pc := 30) hO dX4_value_30 (by first | assumption | exact hSz _ | exact hBz _ | (unfold zR; omega)) ?_
      refine v_lmul (pc := 31) hO dX4_value_31 ?_
      refine v_aload_n (pc := 32) hO dX4_value_32 rfl ?_
      refine v_getf (pc := 33) (v := sref (ad 12)) hO cp_X4 12 q2137 hr.ob (by decide) rfl dX4_value_33 ?_
      refine v_iload_n (pc := 36) hO dX4_value_36 rfl ?_
      refine r_iald (pc := 37) (w := Ar 12 k) (L := 600) hO hr 12 ri_12 rfl rfl (by omega) (by omega) dX4_value_37 ?_
      refine v_i2l (pc := 38) hO dX4_value_38 (by first | assumption | exact hSz _ | exact hBz _ | (unfold zR; omega)) ?_
      refine v_ladd (pc := 39) hO dX4_value_39 ?_
      refine v_ldc2 (pc := 40) hO (z := 48) dX4_value_40 q2608 (by decide +kernel) ?_
      refine v_lsub (pc := 43) hO dX4_value_43 ?_
      refine v_mminl (pc := 44) hO q2609 q2610 q118 q2611 (by decide) (Nat.le_of_ble_eq_true rfl) (Nat.le_of_ble_eq_true rfl) (Nat.le_of_ble_eq_true rfl) (by unfold zLR; omega) (by unfold zLR; omega) dX4_value_44 ?_
      refine v_l2i (pc := 47) hO dX4_value_47 ?_
      refine v_istore_n (pc := 48) hO (lv' := [(1, .inl (minI 2000000000 (((10 * a) + (Ar 12 k)) - 48))), (0, sref am), (2, .inl k)]) dX4_value_48 (by decide) rfl ?_
      refine v_iinc (pc := 49) hO (lv' := [(2, .inl (k + 1)), (1, .inl (minI 2000000000 (((10 * a) + (Ar 12 k)) - 48))), (0, sref am)]) dX4_value_49 rfl (by decide) rfl ?_
      refine v_goto (pc := 52) (tgt := 7) hO dX4_value_52 (by decide) ?_
      refine v_pick (lv2 := [(0, sref am), (1, .inl ((minI 2000000000 (((10 * a) + (Ar 12 k)) - 48)))), (2, .inl ((k + 1)))]) [2, 1, 0] rfl ?_
      exact ih (k + 1, minI 2000000000 (((10 * a) + (Ar 12 k)) - 48)) ⟨(by omega), (by omega), (by unfold minI; split <;> omega), (by unfold minI; split <;> omega), (fun e => absurd e (by omega)), (by rw [hg, if_pos (by omega), if_pos (by omega)]; exact itI_s (by omega))⟩ (by show (S 15 - (k + 1)).toNat < (S 15 - k).toNat; omega)
