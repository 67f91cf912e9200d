/-! THE REFERENCE, 6: what would be; operations -/
set_option maxRecDepth 100000
theorem scr2.z {a b : Nat → Int → Int} (h : scr a b) : scr2 a b := h.s2
abbrev under (M : Int → Int) (o : Int) : Int → Prop := fun _ => M (64 + 10 * o + 3) = 0
theorem yo_X4_arrivalOf : yOK yX4_arrivalOf 3 := by unfold yOK; exact ⟨by decide +kernel, by decide +kernel, by decide +kernel⟩
set_option maxRecDepth 100000 in
theorem m_arrivalOf {G : GT} {h : AH} {am : Nat} {ad : Nat → Nat} {nmf : Int → Option Nat} {S : Nat → Int} {Ar : Nat → Int → Int} {M : Int → Int} (hr : RefAt G h am ad nmf S (rA Ar 0 M)) {A : Nat → Prop} (hA : ∀ q, RA am ad q → A q) (u x y : Int) (hB : Bq M) (hT : M 5 ≤ 569) (hu0 : 0 ≤ u) (hu1 : u < M 2) (hx : zR x) (hy : zR y) : CC G yX4_arrivalOf cX4_arrivalOf 5 (some .int) ({ frames := 9, cells := 0, slots := 0, locals := 195 } : Room) A [sref am, .inl u, .inl x, .inl y] h (fun v h1 => v = some (.inl (arlM M u x y)) ∧ zR (arlM M u x y) ∧ ∃ Ar2 M2, RefAt G h1 am ad nmf S (rA Ar2 0 M2) ∧ scr Ar2 Ar) := by
  refine CC.of (by decide +kernel) [(0, sref am), (1, .inl u), (2, .inl x), (3, .inl y)] rfl (Nat.le_of_ble_eq_true rfl) (fun X hnm hO => ?_)
  have hMz : ∀ z, zR (M z) := fun z => hr.zA 0 z
  have hd := hB.hd
  have h2 := hB.1.2.1
  have h4 := hB.h4
  have h5 := hB.1.2.2.2.1
  have h8 := hB.1.2.2.2.2.1
  have hpics := hB.pics
  have h3 := hpics.1
  have h7 := hB.h7
  have h9m := hB.1.2.2.2.2.2.1
  refine v_aload_n (pc := 0) hO dX4_arrivalOf_0 rfl ?_
  refine v_getf (pc := 1) (v := sref (ad 0)) hO cp_X4 0 q2125 hr.ob (by decide) rfl dX4_arrivalOf_1 ?_
  refine v_iconst (pc := 4) hO dX4_arrivalOf_4 ?_
  refine r_iald (pc := 5) (w := M 4) (L := 3934) hO hr 0 ri_0 rfl rfl (by omega) (by omega) dX4_arrivalOf_5 ?_
  refine v_istore (pc := 6) hO (lv' := [(4, .inl (M 4)), (0, sref am), (1, .inl u), (2, .inl x), (3, .inl y)]) dX4_arrivalOf_6 (by decide) rfl ?_
  refine v_iload (pc := 8) hO dX4_arrivalOf_8 rfl ?_
  refine v_bipush (pc := 10) hO dX4_arrivalOf_10 (by decide +kernel) ?_
  refine v_icmp_ne (pc := 12) (tgt := 17) hO dX4_arrivalOf_12 (by decide) (by first | assumption | exact hr.zA 0 _ | exact hr.zA 8 _ | exact hr.zA 9 _ | exact hr.zS _ | exact hMz _ | exact hMz1 _ | exact zw_R _ | (unfold zR; omega)) (by first | assumption | exact hr.zA 0 _ | exact hr.zA 8 _ | exact hr.zA 9 _ | exact hr.zS _ | exact hMz _ | exact hMz1 _ | exact zw_R _ | (unfold zR; omega)) (fun c12 => ?_) (fun c12 => ?_)
  · obtain ⟨hBd, hdo, hd4⟩ := dspM_Bq hB (u := u) (x := x) (y := y) (by omega) hu0 hu1
    have hds : dspM M u x y (64 + 10 * M 4 + 4) = M 5 := (by unfold dspM; rw [zupd_n (by omega), zupd_n (by omega), zupd_n (by omega), zupd_n (by omega), zupd_n (by omega), zupd_n (by omega), zupd_s])
    refine v_aload_n (pc := 17) hO dX4_arrivalOf_17 rfl ?_
    refine v_iload_n (pc := 18) hO dX4_arrivalOf_18 rfl ?_
    refine v_iload_n (pc := 19) hO dX4_arrivalOf_19 rfl ?_
    refine v_iload_n (pc := 20) hO dX4_arrivalOf_20 rfl ?_
    refine v_callV (pc := 21) (b := am) hO cp_X4 hr.ob (m_dispatch hr hA u x y (by first | assumption | exact hr.zA 0 _ | exact hr.zA 8 _ | exact hr.zA 9 _ | exact hr.zS _ | exact hMz _ | exact hMz1 _ | (unfold zR; omega)) (by first | assumption | exact hr.zA 0 _ | exact hr.zA 8 _ | exact hr.zA 9 _ | exact hr.zS _ | exact hMz _ | exact hMz1 _ | (unfold zR; omega)) (by first | assumption | exact hr.zA 0 _ | exact hr.zA 8 _ | exact hr.zA 9 _ | exact hr.zS _ | exact hMz _ | exact hMz1 _ | (unfold zR; omega)) (by omega) (by omega)) (lw_V q2391 q2393 qs56 q117 q2394) yo_X4_dispatch rfl rfl rfl (by decide) (by decide) (k2 := 0) (n2 := 0) (by decide) (by decide) (by decide) (by decide) dX4_arrivalOf_21 (fun va hv hp hf1 => ?_)
    obtain ⟨rfl, hr⟩ := hp
    refine v_pick (lv2 := [(0, sref am), (1, .inl u), (2, .inl x), (3, .inl y), (4, .inl (M 4))]) [1, 2, 3, 4, 0] rfl ?_
    refine v_loop (σ := (Int → Int) × (Nat → Int → Int) × AH) (fun (M1, Ar1, hL) => Bq M1 ∧ RefAt G hL am ad nmf S (rA Ar1 0 M1) ∧ scr Ar1 Ar ∧ M 4 < M1 4 ∧ M1 (64 + 10 * M 4 + 4) = M 5 ∧ M1 9 = M 9 ∧ (M1 (64 + 10 * M 4 + 3) = 0 → M1 5 - M 5 ≤ M 9) ∧ 0 ≤ M1 5 - M 5 ∧ M1 5 - M 5 ≤ 31 ∧ arwM (dspM M u x y) (M 4) = whl (fun N => decide (N (64 + 10 * M 4 + 3) = 0)) pasM (40 - (M1 5 - M 5)).toNat M1) (fun (M1, Ar1, hL) => (40 - (M1 5 - M 5)).toNat) (fun (M1, Ar1, hL) => hL) (fun (M1, Ar1, hL) => [(0, sref am), (1, .inl u), (2, .inl x), (3, .inl y), (4, .inl (M 4))]) (dspM M u x y, Ar, _) ⟨hBd, hr, scr_rf Ar, (by rw [hd4]; omega), hds, (hdo 9 (by omega) (by omega)), (fun _ => by rw [hdo 5 (by omega) (by omega)]; omega), (by rw [hdo 5 (by omega) (by omega)]; omega), (by rw [hdo 5 (by omega) (by omega)]; omega), (by rw [hdo 5 (by omega) (by omega)]; unfold arwM; rw [show (40 - (M 5 - M 5)).toNat = 40 by omega])⟩ ?_
    rintro ⟨M1, Ar1, hL⟩ ⟨hB, hr, hsc, hn4, hse, h9, hd0, hd1, hd2, hg⟩ ih
    show VV X G A _ _ _ hL _ _ 24 [(0, sref am), (1, .inl u), (2, .inl x), (3, .inl y), (4, .inl (M 4))] []
    refine v_aload_n (pc := 24) hO dX4_arrivalOf_24 rfl ?_
    refine v_iload (pc := 25) hO dX4_arrivalOf_25 rfl ?_
    have hM4 := hB.h4
    refine v_iconst (pc := 27) hO dX4_arrivalOf_27 ?_
    refine v_callV (pc := 28) (b := am) hO cp_X4 hr.ob (m_ofOrder hr (M 4) 3 (by omega) (by omega)) (lw_V q2245 q2247 qs38 q117 q2248) yo_X4_ofOrder rfl rfl rfl (by decide) (by decide) (k2 := 0) (n2 := 0) (by decide) (by decide) (by decide) (by decide) dX4_arrivalOf_28 (fun va hv hp hf1 => ?_)
    obtain ⟨rfl, rfl⟩ := hp
    refine v_if_ne (pc := 31) (tgt := 41) hO dX4_arrivalOf_31 (by decide) (by first | assumption | exact hr.zA 0 _ | exact hr.zA 8 _ | exact hr.zA 9 _ | exact hr.zS _ | exact hMz _ | exact hMz1 _ | exact zw_R _ | (unfold zR; omega)) (fun c31 => ?_) (fun c31 => ?_)
    · refine v_aload_n (pc := 41) hO dX4_arrivalOf_41 rfl ?_
      refine v_iload (pc := 42) hO dX4_arrivalOf_42 rfl ?_
      refine v_iconst (pc := 44) hO dX4_arrivalOf_44 ?_
      refine v_callV (pc := 45) (b := am) hO cp_X4 hr.ob (m_ofOrder hr (M 4) 5 (by omega) (by omega)) (lw_V q2245 q2247 qs38 q117 q2248) yo_X4_ofOrder rfl rfl rfl (by decide) (by decide) (k2 := 0) (n2 := 0) (by decide) (by decide) (by decide) (by decide) dX4_arrivalOf_45 (fun va hv hp hf1 => ?_)
      obtain ⟨rfl, rfl⟩ := hp
      exact v_iret hO dX4_arrivalOf_48 rfl (Nat.le_of_ble_eq_true rfl) (Nat.le_of_ble_eq_true rfl) ⟨congrArg (fun z => some (Sum.inl z)) (by unfold arlM; rw [if_neg (by omega), hg.trans (whl_e (fun e8 => absurd (of_decide_eq_true e8) (by assumption)))]), (by unfold arlM; rw [if_neg (by omega), hg.trans (whl_e (fun e8 => absurd (of_decide_eq_true e8) (by assumption)))]; exact hr.zA 0 _), _, M1, hr, hsc⟩
    · refine v_aload_n (pc := 34) hO dX4_arrivalOf_34 rfl ?_
      refine v_callV (pc := 35) (b := am) hO cp_X4 hr.ob (m_passTurn hr hA hB (by omega)) (lw_V q2395 q2397 qs57 q117 q2398) yo_X4_passTurn rfl rfl rfl (by decide) (by decide) (k2 := 0) (n2 := 0) (by decide) (by decide) (by decide) (by decide) dX4_arrivalOf_35 (fun va hv hp hf1 => ?_)
      obtain ⟨rfl, Ar_1, hr, hsAr_1⟩ := hp
      have hsAr_1 := hsAr_1.tr hsc
      refine v_goto (pc := 38) (tgt := 24) hO dX4_arrivalOf_38 (by decide) ?_
      refine v_pick (lv2 := [(0, sref am), (1, .inl u), (2, .inl x), (3, .inl y), (4, .inl (M 4))]) [0, 1, 2, 3, 4] rfl ?_
      exact ih (pasM M1, Ar_1, _) ⟨(pasM_Bq hB (by omega)).1, hr, hsAr_1, (by have q9 := pas_4 hB (by omega); omega), (by rw [pas_ord hB (by omega) (by omega) (by omega) (Or.inr (Or.inr (Or.inr rfl)))]; exact hse), (by rw [(pasM_Bq hB (by omega)).2.2 9 (by omega)]; exact h9), (fun e8 => by have q9 := pas_lost hB (by omega) (by omega) (by omega) e8; rw [(pasM_Bq hB (by omega)).2.1]; omega), (by rw [(pasM_Bq hB (by omega)).2.1]; omega), (by rw [(pasM_Bq hB (by omega)).2.1]; omega), (by rw [(pasM_Bq hB (by omega)).2.1]; refine hg.trans ?_; rw [show (40 - (M1 5 - M 5)).toNat = (40 - (M1 5 + 1 - M 5)).toNat + 1 by omega]; exact whl_s (decide_eq_true (by assumption)))⟩ (by show (40 - (pasM M1 5 - M 5)).toNat < (40 - (M1 5 - M 5)).toNat; rw [(pasM_Bq hB (by omega)).2.1]; omega)
  · 
    refine v_iconst (pc := 15) hO dX4_arrivalOf_15 ?_
    exact v_iret hO dX4_arrivalOf_16 rfl (Nat.le_of_ble_eq_true rfl) (Nat.le_of_ble_eq_true rfl) ⟨congrArg (fun z => some (Sum.inl z)) (if_pos (by omega)).symm, (by unfold arlM; rw [if_pos (by omega)]; unfold zR; omega), Ar, M, hr, scr_rf Ar⟩
