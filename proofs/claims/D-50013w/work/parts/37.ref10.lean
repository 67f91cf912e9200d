/-! THE REFERENCE, 9: history, means, rows as texts, the buffer -/
set_option maxRecDepth 100000
def shrI (a b : Int) : Int := (zi a >>> (zi b &&& 31)).toInt
def andI (a b : Int) : Int := (zi a &&& zi b).toInt
theorem zi_ti (a : Int32) : zi a.toInt = a := Int32.ofInt_toInt a
def bytI (w k : Int) : Int := andI (shrI w (24 - 8 * (k % 4))) 255
def wrdI (a b c d e k : Int) : Int := if k < 4 then a else if k < 8 then b else if k < 12 then c else if k < 16 then d else e
theorem int32_R (a : Int32) : zR a.toInt := by
  have h1 := a.toInt_lt
  have h2 := a.le_toInt
  unfold zR; omega
theorem yo_X4_undoCount : yOK yX4_undoCount 0 := by unfold yOK; exact ⟨by decide +kernel, by decide +kernel, by decide +kernel⟩
set_option maxRecDepth 100000 in
theorem m_undoCount {G : GT} {h : AH} {am : Nat} {ad : Nat → Nat} {nmf : Int → Option Nat} {S : Nat → Int} {Ar : Nat → Int → Int} {M : Int → Int} (hr : RefAt G h am ad nmf S (rA Ar 0 M)) {A : Nat → Prop} (hA : ∀ q, RA am ad q → A q)  : CC G yX4_undoCount cX4_undoCount 1 (some .int) ({ frames := 1, cells := 0, slots := 0, locals := 12 } : Room) A [sref am] h (fun v h1 => v = some (.inl (S 5)) ∧ RefAt G h1 am ad nmf (rS S 6 0) (rA Ar 0 M)) := by
  refine CC.of (by decide +kernel) [(0, sref am)] rfl (Nat.le_of_ble_eq_true rfl) (fun X hnm hO => ?_)
  have hMz : ∀ z, zR (M z) := fun z => hr.zA 0 z
  refine v_aload_n (pc := 0) hO dX4_undoCount_0 rfl ?_
  refine v_iconst (pc := 1) hO dX4_undoCount_1 ?_
  refine r_puti (pc := 2) (S2 := (rS S 6 0)) hO hr hA 6 rn_6 q2131 rfl (by first | assumption | exact hr.zA 0 _ | exact hr.zA 8 _ | exact hr.zA 9 _ | exact hr.zS _ | exact hMz _ | exact hMz1 _ | exact zw_R _ | (unfold zR; omega)) dX4_undoCount_2 (fun h hr => ?_)
  refine v_aload_n (pc := 5) hO dX4_undoCount_5 rfl ?_
  refine v_getf (pc := 6) (v := .inl (S 5)) hO cp_X4 5 q2130 hr.ob (by decide) rfl dX4_undoCount_6 ?_
  exact v_iret hO dX4_undoCount_9 rfl (Nat.le_of_ble_eq_true rfl) (Nat.le_of_ble_eq_true rfl) ⟨rfl, hr⟩
theorem yo_X4_errorPosition : yOK yX4_errorPosition 0 := by unfold yOK; exact ⟨by decide +kernel, by decide +kernel, by decide +kernel⟩
set_option maxRecDepth 100000 in
theorem m_errorPosition {G : GT} {h : AH} {am : Nat} {ad : Nat → Nat} {nmf : Int → Option Nat} {S : Nat → Int} {Ar : Nat → Int → Int} {M : Int → Int} (hr : RefAt G h am ad nmf S (rA Ar 0 M)) {A : Nat → Prop} (hA : ∀ q, RA am ad q → A q)  : CC G yX4_errorPosition cX4_errorPosition 1 (some .int) ({ frames := 1, cells := 0, slots := 0, locals := 12 } : Room) A [sref am] h (fun v h1 => v = some (.inl (S 20)) ∧ RefAt G h1 am ad nmf (rS S 6 0) (rA Ar 0 M)) := by
  refine CC.of (by decide +kernel) [(0, sref am)] rfl (Nat.le_of_ble_eq_true rfl) (fun X hnm hO => ?_)
  have hMz : ∀ z, zR (M z) := fun z => hr.zA 0 z
  refine v_aload_n (pc := 0) hO dX4_errorPosition_0 rfl ?_
  refine v_iconst (pc := 1) hO dX4_errorPosition_1 ?_
  refine r_puti (pc := 2) (S2 := (rS S 6 0)) hO hr hA 6 rn_6 q2131 rfl (by first | assumption | exact hr.zA 0 _ | exact hr.zA 8 _ | exact hr.zA 9 _ | exact hr.zS _ | exact hMz _ | exact hMz1 _ | exact zw_R _ | (unfold zR; omega)) dX4_errorPosition_2 (fun h hr => ?_)
  refine v_aload_n (pc := 5) hO dX4_errorPosition_5 rfl ?_
  refine v_getf (pc := 6) (v := .inl (S 20)) hO cp_X4 20 q2145 hr.ob (by decide) rfl dX4_errorPosition_6 ?_
  exact v_iret hO dX4_errorPosition_9 rfl (Nat.le_of_ble_eq_true rfl) (Nat.le_of_ble_eq_true rfl) ⟨rfl, hr⟩
theorem yo_X4_undo : yOK yX4_undo 0 := by unfold yOK; exact ⟨by decide +kernel, by decide +kernel, by decide +kernel⟩
set_option maxRecDepth 100000 in
theorem m_undo {G : GT} {h : AH} {am : Nat} {ad : Nat → Nat} {nmf : Int → Option Nat} {S : Nat → Int} {Ar : Nat → Int → Int} {M : Int → Int} (hr : RefAt G h am ad nmf S (rA Ar 0 M)) {A : Nat → Prop} (hA : ∀ q, RA am ad q → A q) (rows : Int → Int → Int) (hn0 : 0 ≤ S 5) (hn1 : S 5 ≤ 10) (hh : Hst (Ar 4) (S 5) rows) (hrz : ∀ r z, zR (rows r z)) : CC G yX4_undo cX4_undo 1 (some .int) ({ frames := 2, cells := 0, slots := 0, locals := 36 } : Room) A [sref am] h (fun v h1 => (S 5 = 0 ∧ v = some (.inl (-1)) ∧ RefAt G h1 am ad nmf (rS S 6 0) (rA Ar 0 M)) ∨ (S 5 ≠ 0 ∧ v = some (.inl (S 5 - 1)) ∧ RefAt G h1 am ad nmf (rS (rS S 5 (S 5 - 1)) 6 0) (rA Ar 0 (rows (S 5 - 1))))) := by
  refine CC.of (by decide +kernel) [(0, sref am)] rfl (Nat.le_of_ble_eq_true rfl) (fun X hnm hO => ?_)
  have hMz : ∀ z, zR (M z) := fun z => hr.zA 0 z
  refine v_aload_n (pc := 0) hO dX4_undo_0 rfl ?_
  refine v_iconst (pc := 1) hO dX4_undo_1 ?_
  refine r_puti (pc := 2) (S2 := (rS S 6 0)) hO hr hA 6 rn_6 q2131 rfl (by first | assumption | exact hr.zA 0 _ | exact hr.zA 8 _ | exact hr.zA 9 _ | exact hr.zS _ | exact hMz _ | exact hMz1 _ | exact zw_R _ | (unfold zR; omega)) dX4_undo_2 (fun h hr => ?_)
  refine v_aload_n (pc := 5) hO dX4_undo_5 rfl ?_
  refine v_getf (pc := 6) (v := .inl (S 5)) hO cp_X4 5 q2130 hr.ob (by decide) rfl dX4_undo_6 ?_
  refine v_if_ne (pc := 9) (tgt := 14) hO dX4_undo_9 (by decide) (by first | assumption | exact hr.zA 0 _ | exact hr.zA 8 _ | exact hr.zA 9 _ | exact hr.zS _ | exact hMz _ | exact hMz1 _ | exact zw_R _ | (unfold zR; omega)) (fun c9 => ?_) (fun c9 => ?_)
  · refine v_aload_n (pc := 14) hO dX4_undo_14 rfl ?_
    refine v_dup (pc := 15) hO dX4_undo_15 rfl ?_
    refine v_getf (pc := 16) (v := .inl (S 5)) hO cp_X4 5 q2130 hr.ob (by decide) rfl dX4_undo_16 ?_
    refine v_iconst (pc := 19) hO dX4_undo_19 ?_
    refine v_isub (pc := 20) hO dX4_undo_20 ?_
    refine r_puti (pc := 21) (S2 := (rS (rS S 5 (S 5 - 1)) 6 0)) hO hr hA 5 rn_5 q2130 (by funext i; simp only [rS]; repeat' split <;> first | rfl | omega) (by first | assumption | exact hr.zA 0 _ | exact hr.zA 8 _ | exact hr.zA 9 _ | exact hr.zS _ | exact hMz _ | exact hMz1 _ | exact zw_R _ | (unfold zR; omega)) dX4_undo_21 (fun h hr => ?_)
    refine v_aload_n (pc := 24) hO dX4_undo_24 rfl ?_
    refine v_getf (pc := 25) (v := sref (ad 4)) hO cp_X4 4 q2129 hr.ob (by decide) rfl dX4_undo_25 ?_
    refine v_aload_n (pc := 28) hO dX4_undo_28 rfl ?_
    refine v_getf (pc := 29) (v := .inl (S 5 - 1)) hO cp_X4 5 q2130 hr.ob (by decide) rfl dX4_undo_29 ?_
    refine v_aload_n (pc := 32) hO dX4_undo_32 rfl ?_
    refine v_getf (pc := 33) (v := sref (ad 0)) hO cp_X4 0 q2125 hr.ob (by decide) rfl dX4_undo_33 ?_
    refine v_iconst (pc := 36) hO dX4_undo_36 ?_
    refine v_callS (pc := 37) hO (m_copy hr hA 4 0 (S 5 - 1) 0 ri_4 ri_0 (by decide) (by omega) (by omega) (by omega) (by omega) (by show _ ≤ ((39340 : Nat) : Int); omega) (by show _ ≤ ((3934 : Nat) : Int); omega)) (lw_S q2388 q2389 q117 q2390) yo_X4_copy rfl rfl (by decide) (by decide) (k2 := 0) (n2 := 0) (by decide) (by decide) (by decide) (by decide) dX4_undo_37 (fun va hv hp hf1 => ?_)
    obtain ⟨rfl, hr⟩ := hp
    refine r_ext hO hr hA 0 (g := rows (S 5 - 1)) ri_0 (fun z z0 z1 => by
      have z2 : z < ((3934 : Nat) : Int) := z1
      rw [rA_s]; unfold cpyM; rw [if_pos (by omega), rA_n (by decide)]; exact (hh (S 5 - 1) z (by omega) (by omega) z0 (by omega)).symm.trans (congrArg _ (by omega))) (hrz _) (fun h hr => ?_)
    rw [rA_rA] at hr
    rw [rA_rA] at hr
    refine v_aload_n (pc := 40) hO dX4_undo_40 rfl ?_
    refine v_getf (pc := 41) (v := .inl (S 5 - 1)) hO cp_X4 5 q2130 hr.ob (by decide) rfl dX4_undo_41 ?_
    exact v_iret hO dX4_undo_44 rfl (Nat.le_of_ble_eq_true rfl) (Nat.le_of_ble_eq_true rfl) (Or.inr ⟨by omega, rfl, hr⟩)
  · refine v_iconst (pc := 12) hO dX4_undo_12 ?_
    exact v_iret hO dX4_undo_13 rfl (Nat.le_of_ble_eq_true rfl) (Nat.le_of_ble_eq_true rfl) (Or.inl ⟨by omega, rfl, hr⟩)
theorem yo_X4_saveSnapshot : yOK yX4_saveSnapshot 0 := by unfold yOK; exact ⟨by decide +kernel, by decide +kernel, by decide +kernel⟩
set_option maxRecDepth 100000 in
theorem m_saveSnapshot {G : GT} {h : AH} {am : Nat} {ad : Nat → Nat} {nmf : Int → Option Nat} {S : Nat → Int} {Ar : Nat → Int → Int} {M : Int → Int} (hr : RefAt G h am ad nmf S (rA Ar 0 M)) {A : Nat → Prop} (hA : ∀ q, RA am ad q → A q)  : CC G yX4_saveSnapshot cX4_saveSnapshot 1 (none) ({ frames := 2, cells := 0, slots := 0, locals := 36 } : Room) A [sref am] h (fun v h1 => v = none ∧ RefAt G h1 am ad nmf (rS (rS S 6 0) 7 1) (rA (rA Ar 3 M) 0 M)) := by
  refine CC.of (by decide +kernel) [(0, sref am)] rfl (Nat.le_of_ble_eq_true rfl) (fun X hnm hO => ?_)
  have hMz : ∀ z, zR (M z) := fun z => hr.zA 0 z
  refine v_aload_n (pc := 0) hO dX4_saveSnapshot_0 rfl ?_
  refine v_iconst (pc := 1) hO dX4_saveSnapshot_1 ?_
  refine r_puti (pc := 2) (S2 := (rS S 6 0)) hO hr hA 6 rn_6 q2131 rfl (by first | assumption | exact hr.zA 0 _ | exact hr.zA 8 _ | exact hr.zA 9 _ | exact hr.zS _ | exact hMz _ | exact hMz1 _ | exact zw_R _ | (unfold zR; omega)) dX4_saveSnapshot_2 (fun h hr => ?_)
  refine v_aload_n (pc := 5) hO dX4_saveSnapshot_5 rfl ?_
  refine v_getf (pc := 6) (v := sref (ad 0)) hO cp_X4 0 q2125 hr.ob (by decide) rfl dX4_saveSnapshot_6 ?_
  refine v_iconst (pc := 9) hO dX4_saveSnapshot_9 ?_
  refine v_aload_n (pc := 10) hO dX4_saveSnapshot_10 rfl ?_
  refine v_getf (pc := 11) (v := sref (ad 3)) hO cp_X4 3 q2128 hr.ob (by decide) rfl dX4_saveSnapshot_11 ?_
  refine v_iconst (pc := 14) hO dX4_saveSnapshot_14 ?_
  refine v_callS (pc := 15) hO (m_copy hr hA 0 3 0 0 ri_0 ri_3 (by decide) (by omega) (by omega) (by omega) (by omega) (by show _ ≤ ((3934 : Nat) : Int); omega) (by show _ ≤ ((3934 : Nat) : Int); omega)) (lw_S q2388 q2389 q117 q2390) yo_X4_copy rfl rfl (by decide) (by decide) (k2 := 0) (n2 := 0) (by decide) (by decide) (by decide) (by decide) dX4_saveSnapshot_15 (fun va hv hp hf1 => ?_)
  obtain ⟨rfl, hr⟩ := hp
  refine r_ext hO hr hA 3 (g := M) ri_3 (fun z z0 z1 => by
    have z2 : z < ((3934 : Nat) : Int) := z1
    rw [rA_s]; unfold cpyM; rw [if_pos (by omega)]; exact congrArg M (by omega)) hMz (fun h hr => ?_)
  rw [rA_rA] at hr
  rw [rA_sw (by decide)] at hr
  refine v_aload_n (pc := 18) hO dX4_saveSnapshot_18 rfl ?_
  refine v_iconst (pc := 19) hO dX4_saveSnapshot_19 ?_
  refine r_putz (pc := 20) (S2 := (rS (rS S 6 0) 7 1)) hO hr hA q2132 rfl (by decide) dX4_saveSnapshot_20 (fun h hr => ?_)
  exact v_vret hO dX4_saveSnapshot_23 rfl (Nat.le_of_ble_eq_true rfl) (Nat.le_of_ble_eq_true rfl) ⟨rfl, hr⟩
theorem yo_X4_restoreSnapshot : yOK yX4_restoreSnapshot 0 := by unfold yOK; exact ⟨by decide +kernel, by decide +kernel, by decide +kernel⟩
set_option maxRecDepth 100000 in
theorem m_restoreSnapshot {G : GT} {h : AH} {am : Nat} {ad : Nat → Nat} {nmf : Int → Option Nat} {S : Nat → Int} {Ar : Nat → Int → Int} {M : Int → Int} (hr : RefAt G h am ad nmf S (rA Ar 0 M)) {A : Nat → Prop} (hA : ∀ q, RA am ad q → A q)  : CC G yX4_restoreSnapshot cX4_restoreSnapshot 1 (some .boolean) ({ frames := 2, cells := 0, slots := 0, locals := 36 } : Room) A [sref am] h (fun v h1 => (S 7 = 0 ∧ v = some (.inl 0) ∧ RefAt G h1 am ad nmf (rS S 6 0) (rA Ar 0 M)) ∨ (S 7 ≠ 0 ∧ v = some (.inl 1) ∧ RefAt G h1 am ad nmf (rS (rS S 5 0) 6 0) (rA Ar 0 (Ar 3)))) := by
  refine CC.of (by decide +kernel) [(0, sref am)] rfl (Nat.le_of_ble_eq_true rfl) (fun X hnm hO => ?_)
  have hMz : ∀ z, zR (M z) := fun z => hr.zA 0 z
  refine v_aload_n (pc := 0) hO dX4_restoreSnapshot_0 rfl ?_
  refine v_iconst (pc := 1) hO dX4_restoreSnapshot_1 ?_
  refine r_puti (pc := 2) (S2 := (rS S 6 0)) hO hr hA 6 rn_6 q2131 rfl (by first | assumption | exact hr.zS 7 | (unfold zR; omega)) dX4_restoreSnapshot_2 (fun h hr => ?_)
  refine v_aload_n (pc := 5) hO dX4_restoreSnapshot_5 rfl ?_
  refine v_getf (pc := 6) (v := .inl (S 7)) hO cp_X4 7 q2132 hr.ob (by decide) rfl dX4_restoreSnapshot_6 ?_
  refine v_if_ne (pc := 9) (tgt := 14) hO dX4_restoreSnapshot_9 (by decide) (by first | assumption | exact hr.zS 7 | (unfold zR; omega)) (fun c9 => ?_) (fun c9 => ?_)
  · refine v_aload_n (pc := 14) hO dX4_restoreSnapshot_14 rfl ?_
    refine v_getf (pc := 15) (v := sref (ad 3)) hO cp_X4 3 q2128 hr.ob (by decide) rfl dX4_restoreSnapshot_15 ?_
    refine v_iconst (pc := 18) hO dX4_restoreSnapshot_18 ?_
    refine v_aload_n (pc := 19) hO dX4_restoreSnapshot_19 rfl ?_
    refine v_getf (pc := 20) (v := sref (ad 0)) hO cp_X4 0 q2125 hr.ob (by decide) rfl dX4_restoreSnapshot_20 ?_
    refine v_iconst (pc := 23) hO dX4_restoreSnapshot_23 ?_
    refine v_callS (pc := 24) hO (m_copy hr hA 3 0 0 0 ri_3 ri_0 (by decide) (by omega) (by omega) (by omega) (by omega) (by show _ ≤ ((3934 : Nat) : Int); omega) (by show _ ≤ ((3934 : Nat) : Int); omega)) (lw_S q2388 q2389 q117 q2390) yo_X4_copy rfl rfl (by decide) (by decide) (k2 := 0) (n2 := 0) (by decide) (by decide) (by decide) (by decide) dX4_restoreSnapshot_24 (fun va hv hp hf1 => ?_)
    obtain ⟨rfl, hr⟩ := hp
    refine r_ext hO hr hA 0 (g := Ar 3) ri_0 (fun z z0 z1 => by
      have z2 : z < ((3934 : Nat) : Int) := z1
      rw [rA_s]; unfold cpyM; rw [if_pos (by omega), rA_n (by decide)]; exact congrArg (Ar 3) (by omega)) (fun z => by have e9 := hr.zA 3 z; rwa [rA_n (by decide), rA_n (by decide)] at e9) (fun h hr => ?_)
    rw [rA_rA] at hr
    rw [rA_rA] at hr
    refine v_aload_n (pc := 27) hO dX4_restoreSnapshot_27 rfl ?_
    refine v_iconst (pc := 28) hO dX4_restoreSnapshot_28 ?_
    refine r_puti (pc := 29) (S2 := (rS (rS S 5 0) 6 0)) hO hr hA 5 rn_5 q2130 (by funext i; simp only [rS]; repeat' split <;> first | rfl | omega) (by first | assumption | exact hr.zS 7 | (unfold zR; omega)) dX4_restoreSnapshot_29 (fun h hr => ?_)
    refine v_iconst (pc := 32) hO dX4_restoreSnapshot_32 ?_
    exact v_zret hO dX4_restoreSnapshot_33 rfl (by decide +kernel) (Nat.le_of_ble_eq_true rfl) (Nat.le_of_ble_eq_true rfl) (Or.inr ⟨by omega, rfl, hr⟩)
  · refine v_iconst (pc := 12) hO dX4_restoreSnapshot_12 ?_
    exact v_zret hO dX4_restoreSnapshot_13 rfl (by decide +kernel) (Nat.le_of_ble_eq_true rfl) (Nat.le_of_ble_eq_true rfl) (Or.inl ⟨by omega, rfl, hr⟩)
theorem yo_X4_meanDelay : yOK yX4_meanDelay 0 := by unfold yOK; exact ⟨by decide +kernel, by decide +kernel, by decide +kernel⟩
set_option maxRecDepth 100000 in
theorem m_meanDelay {G : GT} {h : AH} {am : Nat} {ad : Nat → Nat} {nmf : Int → Option Nat} {S : Nat → Int} {Ar : Nat → Int → Int} {M : Int → Int} (hr : RefAt G h am ad nmf S (rA Ar 0 M)) {A : Nat → Prop} (hA : ∀ q, RA am ad q → A q) (hB : Bq M) : CC G yX4_meanDelay cX4_meanDelay 5 (some .double) ({ frames := 3, cells := 0, slots := 0, locals := 55 } : Room) A [sref am] h (fun v h1 => v = some (.inr (.double (mdlM M))) ∧ RefAt G h1 am ad nmf (rS S 6 0) (rA Ar 0 M)) := by
  refine CC.of (by decide +kernel) [(0, sref am)] rfl (Nat.le_of_ble_eq_true rfl) (fun X hnm hO => ?_)
  have hMz : ∀ z, zR (M z) := fun z => hr.zA 0 z
  have hd := hB.hd
  have h2 := hB.1.2.1
  have h4 := hB.h4
  have h5 := hB.1.2.2.2.1
  have h8 := hB.1.2.2.2.2.1
  have hpics := hB.pics
  have h3 := hpics.1
  have h7 := hB.h7
  have h9m := hB.1.2.2.2.2.2.1
  refine v_aload_n (pc := 0) hO dX4_meanDelay_0 rfl ?_
  refine v_iconst (pc := 1) hO dX4_meanDelay_1 ?_
  refine r_puti (pc := 2) (S2 := (rS S 6 0)) hO hr hA 6 rn_6 q2131 rfl (by first | assumption | exact hr.zA 0 _ | exact hr.zA 8 _ | exact hr.zA 9 _ | exact hr.zS _ | exact hMz _ | exact hMz1 _ | exact zw_R _ | (unfold zR; omega)) dX4_meanDelay_2 (fun h hr => ?_)
  refine v_iconst (pc := 5) hO dX4_meanDelay_5 ?_
  refine v_istore_n (pc := 6) hO (lv' := [(1, .inl 0), (0, sref am)]) dX4_meanDelay_6 (by decide) rfl ?_
  refine v_iconst (pc := 7) hO dX4_meanDelay_7 ?_
  refine v_istore_n (pc := 8) hO (lv' := [(2, .inl 0), (1, .inl 0), (0, sref am)]) dX4_meanDelay_8 (by decide) rfl ?_
  refine v_iconst (pc := 9) hO dX4_meanDelay_9 ?_
  refine v_istore_n (pc := 10) hO (lv' := [(3, .inl 0), (2, .inl 0), (1, .inl 0), (0, sref am)]) dX4_meanDelay_10 (by decide) rfl ?_
  refine v_pick (lv2 := [(0, sref am), (1, .inl 0), (2, .inl 0), (3, .inl 0)]) [3, 2, 1, 0] rfl ?_
  refine v_loop (σ := Int × Int × Int) (fun (i, s, q) => 0 ≤ i ∧ i ≤ M 4 ∧ 0 ≤ q ∧ q ≤ i ∧ sumI (mdS M) (M 4 - 0).toNat 0 = s + sumI (mdS M) (M 4 - i).toNat i ∧ cntI (mdP M) (M 4 - 0).toNat 0 = q + cntI (mdP M) (M 4 - i).toNat i) (fun (i, s, q) => (M 4 - i).toNat) (fun (i, s, q) => h) (fun (i, s, q) => [(0, sref am), (1, .inl s), (2, .inl q), (3, .inl i)]) (0, 0, 0) ⟨Int.le_refl _, (by omega), Int.le_refl _, Int.le_refl _, (by omega), (by omega)⟩ ?_
  rintro ⟨i, s, q⟩ ⟨hi0, hi1, hq0, hq1, hs, hg⟩ ih
  show VV X G A _ _ _ h _ _ 11 [(0, sref am), (1, .inl s), (2, .inl q), (3, .inl i)] []
  refine v_iload_n (pc := 11) hO dX4_meanDelay_11 rfl ?_
  refine v_aload_n (pc := 12) hO dX4_meanDelay_12 rfl ?_
  refine v_getf (pc := 13) (v := sref (ad 0)) hO cp_X4 0 q2125 hr.ob (by decide) rfl dX4_meanDelay_13 ?_
  refine v_iconst (pc := 16) hO dX4_meanDelay_16 ?_
  refine r_iald (pc := 17) (w := M 4) (L := 3934) hO hr 0 ri_0 rfl rfl (by omega) (by omega) dX4_meanDelay_17 ?_
  refine v_icmp_ge (pc := 18) (tgt := 82) hO dX4_meanDelay_18 (by decide) (by first | assumption | exact hr.zA 0 _ | exact hr.zA 8 _ | exact hr.zA 9 _ | exact hr.zS _ | exact hMz _ | exact hMz1 _ | exact zw_R _ | (unfold zR; omega)) (by first | assumption | exact hr.zA 0 _ | exact hr.zA 8 _ | exact hr.zA 9 _ | exact hr.zS _ | exact hMz _ | exact hMz1 _ | exact zw_R _ | (unfold zR; omega)) (fun c18 => ?_) (fun c18 => ?_)
  · have eC : cntI (mdP M) (M 4 - 0).toNat 0 = q := (by have e9 := cntI_e (p := mdP M) (show M 4 ≤ i by omega); omega)
    have eS : sumI (mdS M) (M 4 - 0).toNat 0 = s := (by have e9 := sumI_e (f := mdS M) (show M 4 ≤ i by omega); omega)
    refine v_iload_n (pc := 82) hO dX4_meanDelay_82 rfl ?_
    refine v_if_ne (pc := 83) (tgt := 90) hO dX4_meanDelay_83 (by decide) (by first | assumption | exact hr.zA 0 _ | exact hr.zA 8 _ | exact hr.zA 9 _ | exact hr.zS _ | exact hMz _ | exact hMz1 _ | exact zw_R _ | (unfold zR; omega)) (fun c83 => ?_) (fun c83 => ?_)
    · refine v_iload_n (pc := 90) hO dX4_meanDelay_90 rfl ?_
      refine v_i2d (pc := 91) hO dX4_meanDelay_91 ?_
      refine v_iload_n (pc := 92) hO dX4_meanDelay_92 rfl ?_
      refine v_i2d (pc := 93) hO dX4_meanDelay_93 ?_
      refine v_ddiv (pc := 94) hO dX4_meanDelay_94 (fp_ddiv (by omega) (by omega)) ?_
      exact v_dret hO dX4_meanDelay_95 rfl (Nat.le_of_ble_eq_true rfl) (Nat.le_of_ble_eq_true rfl) ⟨congrArg (fun z => some (Sum.inr (Value.double z))) (by unfold mdlM; rw [eC, eS, if_neg (by omega)]), hr⟩
    · refine v_dconst0 (pc := 86) hO dX4_meanDelay_86 ?_
      refine v_goto (pc := 87) (tgt := 95) hO dX4_meanDelay_87 (by decide) ?_
      exact v_dret hO dX4_meanDelay_95 rfl (Nat.le_of_ble_eq_true rfl) (Nat.le_of_ble_eq_true rfl) ⟨congrArg (fun z => some (Sum.inr (Value.double z))) (by unfold mdlM; rw [eC, eS, if_pos (by omega)]), hr⟩
  · refine v_aload_n (pc := 21) hO dX4_meanDelay_21 rfl ?_
    refine v_iload_n (pc := 22) hO dX4_meanDelay_22 rfl ?_
    refine v_iconst (pc := 23) hO dX4_meanDelay_23 ?_
    refine v_callV (pc := 24) (b := am) hO cp_X4 hr.ob (m_ofOrder hr i 5 (by omega) (by omega)) (lw_V q2245 q2247 qs38 q117 q2248) yo_X4_ofOrder rfl rfl rfl (by decide) (by decide) (k2 := 0) (n2 := 0) (by decide) (by decide) (by decide) (by decide) dX4_meanDelay_24 (fun va hv hp hf1 => ?_)
    obtain ⟨rfl, rfl⟩ := hp
    refine v_iconst (pc := 27) hO dX4_meanDelay_27 ?_
    refine v_icmp_eq (pc := 28) (tgt := 35) hO dX4_meanDelay_28 (by decide) (by first | assumption | exact hr.zA 0 _ | exact hr.zA 8 _ | exact hr.zA 9 _ | exact hr.zS _ | exact hMz _ | exact hMz1 _ | exact zw_R _ | (unfold zR; omega)) (by first | assumption | exact hr.zA 0 _ | exact hr.zA 8 _ | exact hr.zA 9 _ | exact hr.zS _ | exact hMz _ | exact hMz1 _ | exact zw_R _ | (unfold zR; omega)) (fun c28 => ?_) (fun c28 => ?_)
    · refine v_iconst (pc := 35) hO dX4_meanDelay_35 ?_
      refine v_istore (pc := 36) hO (lv' := [(4, .inl 0), (0, sref am), (1, .inl s), (2, .inl q), (3, .inl i)]) dX4_meanDelay_36 (by decide) rfl ?_
      have hmo := hB.ord hi0 (show i < M 4 by omega)
      refine v_iload_n (pc := 38) hO dX4_meanDelay_38 rfl ?_
      refine v_iload (pc := 39) hO dX4_meanDelay_39 rfl ?_
      refine v_if_eq (pc := 41) (tgt := 60) hO dX4_meanDelay_41 (by decide) (by unfold zR; omega) (fun c41 => ?_) (fun c41 => absurd c41 (by omega))
      refine v_iconst (pc := 60) hO dX4_meanDelay_60 ?_
      refine v_iadd (pc := 61) hO dX4_meanDelay_61 ?_
      refine v_istore_n (pc := 62) hO (lv' := [(1, .inl (s + 0)), (4, .inl 0), (0, sref am), (2, .inl q), (3, .inl i)]) dX4_meanDelay_62 (by decide) rfl ?_
      refine v_iload_n (pc := 63) hO dX4_meanDelay_63 rfl ?_
      refine v_iload (pc := 64) hO dX4_meanDelay_64 rfl ?_
      refine v_if_eq (pc := 66) (tgt := 73) hO dX4_meanDelay_66 (by decide) (by unfold zR; omega) (fun c66 => ?_) (fun c66 => absurd c66 (by omega))
      refine v_iconst (pc := 73) hO dX4_meanDelay_73 ?_
      refine v_iadd (pc := 74) hO dX4_meanDelay_74 ?_
      refine v_istore_n (pc := 75) hO (lv' := [(2, .inl (q + 0)), (1, .inl (s + 0)), (4, .inl 0), (0, sref am), (3, .inl i)]) dX4_meanDelay_75 (by decide) rfl ?_
      refine v_iinc (pc := 76) hO (lv' := [(3, .inl (i + 1)), (2, .inl (q + 0)), (1, .inl (s + 0)), (4, .inl 0), (0, sref am)]) dX4_meanDelay_76 rfl (by decide) rfl ?_
      refine v_goto (pc := 79) (tgt := 11) hO dX4_meanDelay_79 (by decide) ?_
      refine v_pick (lv2 := [(0, sref am), (1, .inl ((s + 0))), (2, .inl ((q + 0))), (3, .inl ((i + 1)))]) [4, 2, 1, 0] rfl ?_
      exact ih (i + 1, s + 0, q + 0) ⟨(by omega), (by omega), (by omega), (by omega), (by have e9 := sumI_s (f := mdS M) (show i < M 4 by omega); have e8 : mdS M i = 0 := if_neg (by omega); omega), (by have e9 := cntI_n (p := mdP M) (show i < M 4 by omega) (fun e => absurd (of_decide_eq_true e) (by omega)); omega)⟩ (by show (M 4 - (i + 1)).toNat < (M 4 - i).toNat; omega)
    · refine v_iconst (pc := 31) hO dX4_meanDelay_31 ?_
      refine v_goto (pc := 32) (tgt := 36) hO dX4_meanDelay_32 (by decide) ?_
      refine v_istore (pc := 36) hO (lv' := [(4, .inl 1), (0, sref am), (1, .inl s), (2, .inl q), (3, .inl i)]) dX4_meanDelay_36 (by decide) rfl ?_
      have hmo := hB.ord hi0 (show i < M 4 by omega)
      refine v_iload_n (pc := 38) hO dX4_meanDelay_38 rfl ?_
      refine v_iload (pc := 39) hO dX4_meanDelay_39 rfl ?_
      refine v_if_eq (pc := 41) (tgt := 60) hO dX4_meanDelay_41 (by decide) (by unfold zR; omega) (fun c41 => absurd c41 (by omega)) (fun c41 => ?_)
      refine v_aload_n (pc := 44) hO dX4_meanDelay_44 rfl ?_
      refine v_iload_n (pc := 45) hO dX4_meanDelay_45 rfl ?_
      refine v_iconst (pc := 46) hO dX4_meanDelay_46 ?_
      refine v_callV (pc := 47) (b := am) hO cp_X4 hr.ob (m_ofOrder hr i 5 (by omega) (by omega)) (lw_V q2245 q2247 qs38 q117 q2248) yo_X4_ofOrder rfl rfl rfl (by decide) (by decide) (k2 := 0) (n2 := 0) (by decide) (by decide) (by decide) (by decide) dX4_meanDelay_47 (fun va hv hp hf1 => ?_)
      obtain ⟨rfl, rfl⟩ := hp
      refine v_aload_n (pc := 50) hO dX4_meanDelay_50 rfl ?_
      refine v_iload_n (pc := 51) hO dX4_meanDelay_51 rfl ?_
      refine v_iconst (pc := 52) hO dX4_meanDelay_52 ?_
      refine v_callV (pc := 53) (b := am) hO cp_X4 hr.ob (m_ofOrder hr i 4 (by omega) (by omega)) (lw_V q2245 q2247 qs38 q117 q2248) yo_X4_ofOrder rfl rfl rfl (by decide) (by decide) (k2 := 0) (n2 := 0) (by decide) (by decide) (by decide) (by decide) dX4_meanDelay_53 (fun va hv hp hf1 => ?_)
      obtain ⟨rfl, rfl⟩ := hp
      refine v_isub (pc := 56) hO dX4_meanDelay_56 ?_
      refine v_goto (pc := 57) (tgt := 61) hO dX4_meanDelay_57 (by decide) ?_
      refine v_iadd (pc := 61) hO dX4_meanDelay_61 ?_
      refine v_istore_n (pc := 62) hO (lv' := [(1, .inl (s + (M (64 + 10 * i + 5) - (M (64 + 10 * i + 4))))), (4, .inl 1), (0, sref am), (2, .inl q), (3, .inl i)]) dX4_meanDelay_62 (by decide) rfl ?_
      refine v_iload_n (pc := 63) hO dX4_meanDelay_63 rfl ?_
      refine v_iload (pc := 64) hO dX4_meanDelay_64 rfl ?_
      refine v_if_eq (pc := 66) (tgt := 73) hO dX4_meanDelay_66 (by decide) (by unfold zR; omega) (fun c66 => absurd c66 (by omega)) (fun c66 => ?_)
      refine v_iconst (pc := 69) hO dX4_meanDelay_69 ?_
      refine v_goto (pc := 70) (tgt := 74) hO dX4_meanDelay_70 (by decide) ?_
      refine v_iadd (pc := 74) hO dX4_meanDelay_74 ?_
      refine v_istore_n (pc := 75) hO (lv' := [(2, .inl (q + 1)), (1, .inl (s + (M (64 + 10 * i + 5) - (M (64 + 10 * i + 4))))), (4, .inl 1), (0, sref am), (3, .inl i)]) dX4_meanDelay_75 (by decide) rfl ?_
      refine v_iinc (pc := 76) hO (lv' := [(3, .inl (i + 1)), (2, .inl (q + 1)), (1, .inl (s + (M (64 + 10 * i + 5) - (M (64 + 10 * i + 4))))), (4, .inl 1), (0, sref am)]) dX4_meanDelay_76 rfl (by decide) rfl ?_
      refine v_goto (pc := 79) (tgt := 11) hO dX4_meanDelay_79 (by decide) ?_
      refine v_pick (lv2 := [(0, sref am), (1, .inl ((s + (M (64 + 10 * i + 5) - (M (64 + 10 * i + 4)))))), (2, .inl ((q + 1))), (3, .inl ((i + 1)))]) [4, 2, 1, 0] rfl ?_
      exact ih (i + 1, s + (M (64 + 10 * i + 5) - (M (64 + 10 * i + 4))), q + 1) ⟨(by omega), (by omega), (by omega), (by omega), (by have e9 := sumI_s (f := mdS M) (show i < M 4 by omega); have e8 : mdS M i = M (64 + 10 * i + 5) - M (64 + 10 * i + 4) := if_pos (by omega); omega), (by have e9 := cntI_y (p := mdP M) (show i < M 4 by omega) (decide_eq_true (by omega)); omega)⟩ (by show (M 4 - (i + 1)).toNat < (M 4 - i).toNat; omega)
theorem yo_X4_success : yOK yX4_success 0 := by unfold yOK; exact ⟨by decide +kernel, by decide +kernel, by decide +kernel⟩
set_option maxRecDepth 100000 in
theorem m_success {G : GT} {h : AH} {am : Nat} {ad : Nat → Nat} {nmf : Int → Option Nat} {S : Nat → Int} {Ar : Nat → Int → Int} {M : Int → Int} (hr : RefAt G h am ad nmf S (rA Ar 0 M)) {A : Nat → Prop} (hA : ∀ q, RA am ad q → A q) (hB : Bq M) : CC G yX4_success cX4_success 1 (some .float) ({ frames := 4, cells := 0, slots := 0, locals := 78 } : Room) A [sref am] h (fun v h1 => v = some (.inr (.float (sucM M))) ∧ RefAt G h1 am ad nmf (rS S 6 0) (rA Ar 0 M)) := by
  refine CC.of (by decide +kernel) [(0, sref am)] rfl (Nat.le_of_ble_eq_true rfl) (fun X hnm hO => ?_)
  have hMz : ∀ z, zR (M z) := fun z => hr.zA 0 z
  have hd := hB.hd
  have h2 := hB.1.2.1
  have h4 := hB.h4
  have h5 := hB.1.2.2.2.1
  have h8 := hB.1.2.2.2.2.1
  have hpics := hB.pics
  have h3 := hpics.1
  have h7 := hB.h7
  have h9m := hB.1.2.2.2.2.2.1
  refine v_aload_n (pc := 0) hO dX4_success_0 rfl ?_
  refine v_iconst (pc := 1) hO dX4_success_1 ?_
  refine r_puti (pc := 2) (S2 := (rS S 6 0)) hO hr hA 6 rn_6 q2131 rfl (by first | assumption | exact hr.zA 0 _ | exact hr.zA 8 _ | exact hr.zA 9 _ | exact hr.zS _ | exact hMz _ | exact hMz1 _ | exact zw_R _ | (unfold zR; omega)) dX4_success_2 (fun h hr => ?_)
  refine v_aload_n (pc := 5) hO dX4_success_5 rfl ?_
  refine v_getf (pc := 6) (v := sref (ad 0)) hO cp_X4 0 q2125 hr.ob (by decide) rfl dX4_success_6 ?_
  refine v_iconst (pc := 9) hO dX4_success_9 ?_
  refine r_iald (pc := 10) (w := M 4) (L := 3934) hO hr 0 ri_0 rfl rfl (by omega) (by omega) dX4_success_10 ?_
  refine v_if_ne (pc := 11) (tgt := 18) hO dX4_success_11 (by decide) (by first | assumption | exact hr.zA 0 _ | exact hr.zA 8 _ | exact hr.zA 9 _ | exact hr.zS _ | exact hMz _ | exact hMz1 _ | exact zw_R _ | (unfold zR; omega)) (fun c11 => ?_) (fun c11 => ?_)
  · refine v_aload_n (pc := 18) hO dX4_success_18 rfl ?_
    refine v_iconst (pc := 19) hO dX4_success_19 ?_
    refine v_callV (pc := 20) (b := am) hO cp_X4 hr.ob (m_ordersIn hr 2 (by first | assumption | exact hr.zA 0 _ | exact hr.zA 8 _ | exact hr.zA 9 _ | exact hr.zS _ | exact hMz _ | exact hMz1 _ | (unfold zR; omega)) (by omega)) (lw_V q2306 q2308 qs46 q117 q2309) yo_X4_ordersIn rfl rfl rfl (by decide) (by decide) (k2 := 0) (n2 := 0) (by decide) (by decide) (by decide) (by decide) dX4_success_20 (fun va hv hp hf1 => ?_)
    obtain ⟨rfl, rfl⟩ := hp
    refine v_i2f (pc := 23) hO dX4_success_23 ?_
    refine v_aload_n (pc := 24) hO dX4_success_24 rfl ?_
    refine v_getf (pc := 25) (v := sref (ad 0)) hO cp_X4 0 q2125 hr.ob (by decide) rfl dX4_success_25 ?_
    refine v_iconst (pc := 28) hO dX4_success_28 ?_
    refine r_iald (pc := 29) (w := M 4) (L := 3934) hO hr 0 ri_0 rfl rfl (by omega) (by omega) dX4_success_29 ?_
    refine v_i2f (pc := 30) hO dX4_success_30 ?_
    refine v_fdiv (pc := 31) hO dX4_success_31 (fp_fdiv (by omega) (by omega)) ?_
    exact v_fret hO dX4_success_32 rfl (Nat.le_of_ble_eq_true rfl) (Nat.le_of_ble_eq_true rfl) ⟨congrArg (fun z => some (Sum.inr (Value.float z))) (by unfold sucM; rw [if_neg (by omega)]), hr⟩
  · refine v_fconst0 (pc := 14) hO dX4_success_14 ?_
    refine v_goto (pc := 15) (tgt := 32) hO dX4_success_15 (by decide) ?_
    exact v_fret hO dX4_success_32 rfl (Nat.le_of_ble_eq_true rfl) (Nat.le_of_ble_eq_true rfl) ⟨congrArg (fun z => some (Sum.inr (Value.float z))) (by unfold sucM; rw [if_pos (by omega)]), hr⟩
theorem yo_X4_lowestIn : yOK yX4_lowestIn 2 := by unfold yOK; exact ⟨by decide +kernel, by decide +kernel, by decide +kernel⟩
set_option maxRecDepth 100000 in
theorem m_lowestIn {G : GT} {h : AH} {am : Nat} {ad : Nat → Nat} {nmf : Int → Option Nat} {S : Nat → Int} {Ar : Nat → Int → Int} {M : Int → Int} (hr : RefAt G h am ad nmf S (rA Ar 0 M)) {A : Nat → Prop} (x y : Int) (zx : zR x) (zy : zR y) (hB : Bq M) : CC G yX4_lowestIn cX4_lowestIn 4 (some .int) ({ frames := 3, cells := 0, slots := 0, locals := 55 } : Room) A [sref am, .inl x, .inl y] h (fun v h1 => v = some (.inl (lowM M x y)) ∧ h = h1) := by
  refine CC.of (by decide +kernel) [(0, sref am), (1, .inl x), (2, .inl y)] rfl (Nat.le_of_ble_eq_true rfl) (fun X hnm hO => ?_)
  have hMz : ∀ z, zR (M z) := fun z => hr.zA 0 z
  have hd := hB.hd
  have h2 := hB.1.2.1
  have h4 := hB.h4
  have h5 := hB.1.2.2.2.1
  have h8 := hB.1.2.2.2.2.1
  have hpics := hB.pics
  have h3 := hpics.1
  have h7 := hB.h7
  have h9m := hB.1.2.2.2.2.2.1
  refine v_iconst (pc := 0) hO dX4_lowestIn_0 ?_
  refine v_istore_n (pc := 1) hO (lv' := [(3, .inl 0), (0, sref am), (1, .inl x), (2, .inl y)]) dX4_lowestIn_1 (by decide) rfl ?_
  refine v_pick (lv2 := [(0, sref am), (1, .inl x), (2, .inl y), (3, .inl 0)]) [1, 2, 3, 0] rfl ?_
  refine v_loop (σ := Int) (fun (i : Int) => 0 ≤ i ∧ i ≤ M 2 ∧ lowM M x y = fstI (hl1P M x y) (M 2 - i).toNat i) (fun (i : Int) => (M 2 - i).toNat) (fun (i : Int) => h) (fun (i : Int) => [(0, sref am), (1, .inl x), (2, .inl y), (3, .inl i)]) (0) ⟨Int.le_refl _, (by omega), rfl⟩ ?_
  rintro i ⟨hi0, hi1, hg⟩ ih
  show VV X G A _ _ _ h _ _ 2 [(0, sref am), (1, .inl x), (2, .inl y), (3, .inl i)] []
  refine v_iload_n (pc := 2) hO dX4_lowestIn_2 rfl ?_
  refine v_aload_n (pc := 3) hO dX4_lowestIn_3 rfl ?_
  refine v_getf (pc := 4) (v := sref (ad 0)) hO cp_X4 0 q2125 hr.ob (by decide) rfl dX4_lowestIn_4 ?_
  refine v_iconst (pc := 7) hO dX4_lowestIn_7 ?_
  refine r_iald (pc := 8) (w := M 2) (L := 3934) hO hr 0 ri_0 rfl rfl (by omega) (by omega) dX4_lowestIn_8 ?_
  refine v_icmp_ge (pc := 9) (tgt := 40) hO dX4_lowestIn_9 (by decide) (by first | assumption | exact hr.zA 0 _ | exact hr.zA 8 _ | exact hr.zA 9 _ | exact hr.zS _ | exact hMz _ | exact hMz1 _ | exact zw_R _ | (unfold zR; omega)) (by first | assumption | exact hr.zA 0 _ | exact hr.zA 8 _ | exact hr.zA 9 _ | exact hr.zS _ | exact hMz _ | exact hMz1 _ | exact zw_R _ | (unfold zR; omega)) (fun c9 => ?_) (fun c9 => ?_)
  · refine v_iconst (pc := 40) hO dX4_lowestIn_40 ?_
    exact v_iret hO dX4_lowestIn_41 rfl (Nat.le_of_ble_eq_true rfl) (Nat.le_of_ble_eq_true rfl) ⟨congrArg (fun z => some (Sum.inl z)) (hg.trans (fstI_e (by omega))).symm, rfl⟩
  · refine v_aload_n (pc := 12) hO dX4_lowestIn_12 rfl ?_
    refine v_iload_n (pc := 13) hO dX4_lowestIn_13 rfl ?_
    refine v_iconst (pc := 14) hO dX4_lowestIn_14 ?_
    refine v_callV (pc := 15) (b := am) hO cp_X4 hr.ob (m_ofUnit hr i 0 (by omega) (by omega)) (lw_V q2234 q2236 qs36 q117 q2237) yo_X4_ofUnit rfl rfl rfl (by decide) (by decide) (k2 := 0) (n2 := 0) (by decide) (by decide) (by decide) (by decide) dX4_lowestIn_15 (fun va hv hp hf1 => ?_)
    obtain ⟨rfl, rfl⟩ := hp
    refine v_iload_n (pc := 18) hO dX4_lowestIn_18 rfl ?_
    refine v_icmp_ne (pc := 19) (tgt := 34) hO dX4_lowestIn_19 (by decide) (by first | assumption | exact hr.zA 0 _ | exact hr.zA 8 _ | exact hr.zA 9 _ | exact hr.zS _ | exact hMz _ | exact hMz1 _ | exact zw_R _ | (unfold zR; omega)) (by first | assumption | exact hr.zA 0 _ | exact hr.zA 8 _ | exact hr.zA 9 _ | exact hr.zS _ | exact hMz _ | exact hMz1 _ | exact zw_R _ | (unfold zR; omega)) (fun c19 => ?_) (fun c19 => ?_)
    · refine v_iinc (pc := 34) hO (lv' := [(3, .inl (i + 1)), (0, sref am), (1, .inl x), (2, .inl y)]) dX4_lowestIn_34 rfl (by decide) rfl ?_
      refine v_goto (pc := 37) (tgt := 2) hO dX4_lowestIn_37 (by decide) ?_
      refine v_pick (lv2 := [(0, sref am), (1, .inl x), (2, .inl y), (3, .inl ((i + 1)))]) [1, 2, 3, 0] rfl ?_
      exact ih (i + 1) ⟨(by omega), (by omega), (hg.trans (fstI_n (p := hl1P M x y) (by omega) (fun e => absurd (of_decide_eq_true e) (by omega))))⟩ (by show (M 2 - (i + 1)).toNat < (M 2 - i).toNat; omega)
    · refine v_aload_n (pc := 22) hO dX4_lowestIn_22 rfl ?_
      refine v_iload_n (pc := 23) hO dX4_lowestIn_23 rfl ?_
      refine v_iconst (pc := 24) hO dX4_lowestIn_24 ?_
      refine v_callV (pc := 25) (b := am) hO cp_X4 hr.ob (m_ofUnit hr i 1 (by omega) (by omega)) (lw_V q2234 q2236 qs36 q117 q2237) yo_X4_ofUnit rfl rfl rfl (by decide) (by decide) (k2 := 0) (n2 := 0) (by decide) (by decide) (by decide) (by decide) dX4_lowestIn_25 (fun va hv hp hf1 => ?_)
      obtain ⟨rfl, rfl⟩ := hp
      refine v_iload_n (pc := 28) hO dX4_lowestIn_28 rfl ?_
      refine v_icmp_ne (pc := 29) (tgt := 34) hO dX4_lowestIn_29 (by decide) (by first | assumption | exact hr.zA 0 _ | exact hr.zA 8 _ | exact hr.zA 9 _ | exact hr.zS _ | exact hMz _ | exact hMz1 _ | exact zw_R _ | (unfold zR; omega)) (by first | assumption | exact hr.zA 0 _ | exact hr.zA 8 _ | exact hr.zA 9 _ | exact hr.zS _ | exact hMz _ | exact hMz1 _ | exact zw_R _ | (unfold zR; omega)) (fun c29 => ?_) (fun c29 => ?_)
      · refine v_iinc (pc := 34) hO (lv' := [(3, .inl (i + 1)), (0, sref am), (1, .inl x), (2, .inl y)]) dX4_lowestIn_34 rfl (by decide) rfl ?_
        refine v_goto (pc := 37) (tgt := 2) hO dX4_lowestIn_37 (by decide) ?_
        refine v_pick (lv2 := [(0, sref am), (1, .inl x), (2, .inl y), (3, .inl ((i + 1)))]) [1, 2, 3, 0] rfl ?_
        exact ih (i + 1) ⟨(by omega), (by omega), (hg.trans (fstI_n (p := hl1P M x y) (by omega) (fun e => absurd (of_decide_eq_true e) (by omega))))⟩ (by show (M 2 - (i + 1)).toNat < (M 2 - i).toNat; omega)
      · refine v_iload_n (pc := 32) hO dX4_lowestIn_32 rfl ?_
        exact v_iret hO dX4_lowestIn_33 rfl (Nat.le_of_ble_eq_true rfl) (Nat.le_of_ble_eq_true rfl) ⟨congrArg (fun z => some (Sum.inl z)) (hg.trans (fstI_y (p := hl1P M x y) (by omega) (decide_eq_true (by omega)))).symm, rfl⟩
theorem yo_X4_hasMessenger : yOK yX4_hasMessenger 2 := by unfold yOK; exact ⟨by decide +kernel, by decide +kernel, by decide +kernel⟩
set_option maxRecDepth 100000 in
theorem m_hasMessenger {G : GT} {h : AH} {am : Nat} {ad : Nat → Nat} {nmf : Int → Option Nat} {S : Nat → Int} {Ar : Nat → Int → Int} {M : Int → Int} (hr : RefAt G h am ad nmf S (rA Ar 0 M)) {A : Nat → Prop} (x y : Int) (zx : zR x) (zy : zR y) (hB : Bq M) : CC G yX4_hasMessenger cX4_hasMessenger 4 (some .boolean) ({ frames := 3, cells := 0, slots := 0, locals := 55 } : Room) A [sref am, .inl x, .inl y] h (fun v h1 => v = some (.inl (b2i (decide (msgP M x y)))) ∧ h = h1) := by
  refine CC.of (by decide +kernel) [(0, sref am), (1, .inl x), (2, .inl y)] rfl (Nat.le_of_ble_eq_true rfl) (fun X hnm hO => ?_)
  have hMz : ∀ z, zR (M z) := fun z => hr.zA 0 z
  have hd := hB.hd
  have h2 := hB.1.2.1
  have h4 := hB.h4
  have h5 := hB.1.2.2.2.1
  have h8 := hB.1.2.2.2.2.1
  have hpics := hB.pics
  have h3 := hpics.1
  have h7 := hB.h7
  have h9m := hB.1.2.2.2.2.2.1
  refine v_iconst (pc := 0) hO dX4_hasMessenger_0 ?_
  refine v_istore_n (pc := 1) hO (lv' := [(3, .inl 0), (0, sref am), (1, .inl x), (2, .inl y)]) dX4_hasMessenger_1 (by decide) rfl ?_
  refine v_pick (lv2 := [(0, sref am), (1, .inl x), (2, .inl y), (3, .inl 0)]) [1, 2, 3, 0] rfl ?_
  refine v_loop (σ := Int) (fun (i : Int) => 0 ≤ i ∧ i ≤ M 4 ∧ anyI (hl2P M x y) (M 4 - 0).toNat 0 = anyI (hl2P M x y) (M 4 - i).toNat i) (fun (i : Int) => (M 4 - i).toNat) (fun (i : Int) => h) (fun (i : Int) => [(0, sref am), (1, .inl x), (2, .inl y), (3, .inl i)]) (0) ⟨Int.le_refl _, (by omega), rfl⟩ ?_
  rintro i ⟨hi0, hi1, hg⟩ ih
  show VV X G A _ _ _ h _ _ 2 [(0, sref am), (1, .inl x), (2, .inl y), (3, .inl i)] []
  refine v_iload_n (pc := 2) hO dX4_hasMessenger_2 rfl ?_
  refine v_aload_n (pc := 3) hO dX4_hasMessenger_3 rfl ?_
  refine v_getf (pc := 4) (v := sref (ad 0)) hO cp_X4 0 q2125 hr.ob (by decide) rfl dX4_hasMessenger_4 ?_
  refine v_iconst (pc := 7) hO dX4_hasMessenger_7 ?_
  refine r_iald (pc := 8) (w := M 4) (L := 3934) hO hr 0 ri_0 rfl rfl (by omega) (by omega) dX4_hasMessenger_8 ?_
  refine v_icmp_ge (pc := 9) (tgt := 51) hO dX4_hasMessenger_9 (by decide) (by first | assumption | exact hr.zA 0 _ | exact hr.zA 8 _ | exact hr.zA 9 _ | exact hr.zS _ | exact hMz _ | exact hMz1 _ | exact zw_R _ | (unfold zR; omega)) (by first | assumption | exact hr.zA 0 _ | exact hr.zA 8 _ | exact hr.zA 9 _ | exact hr.zS _ | exact hMz _ | exact hMz1 _ | exact zw_R _ | (unfold zR; omega)) (fun c9 => ?_) (fun c9 => ?_)
  · refine v_iconst (pc := 51) hO dX4_hasMessenger_51 ?_
    exact v_zret hO dX4_hasMessenger_52 rfl (by decide +kernel) (Nat.le_of_ble_eq_true rfl) (Nat.le_of_ble_eq_true rfl) ⟨congrArg (fun z => some (Sum.inl z)) (b2i_f (show ¬ msgP M x y from fun e => by have e2 : anyI (hl2P M x y) (M 4 - 0).toNat 0 = true := e; rw [hg, anyI_e (by omega)] at e2; cases e2)).symm, rfl⟩
  · refine v_aload_n (pc := 12) hO dX4_hasMessenger_12 rfl ?_
    refine v_iload_n (pc := 13) hO dX4_hasMessenger_13 rfl ?_
    refine v_iconst (pc := 14) hO dX4_hasMessenger_14 ?_
    refine v_callV (pc := 15) (b := am) hO cp_X4 hr.ob (m_ofOrder hr i 3 (by omega) (by omega)) (lw_V q2245 q2247 qs38 q117 q2248) yo_X4_ofOrder rfl rfl rfl (by decide) (by decide) (k2 := 0) (n2 := 0) (by decide) (by decide) (by decide) (by decide) dX4_hasMessenger_15 (fun va hv hp hf1 => ?_)
    obtain ⟨rfl, rfl⟩ := hp
    refine v_if_ne (pc := 18) (tgt := 45) hO dX4_hasMessenger_18 (by decide) (by first | assumption | exact hr.zA 0 _ | exact hr.zA 8 _ | exact hr.zA 9 _ | exact hr.zS _ | exact hMz _ | exact hMz1 _ | exact zw_R _ | (unfold zR; omega)) (fun c18 => ?_) (fun c18 => ?_)
    · refine v_iinc (pc := 45) hO (lv' := [(3, .inl (i + 1)), (0, sref am), (1, .inl x), (2, .inl y)]) dX4_hasMessenger_45 rfl (by decide) rfl ?_
      refine v_goto (pc := 48) (tgt := 2) hO dX4_hasMessenger_48 (by decide) ?_
      refine v_pick (lv2 := [(0, sref am), (1, .inl x), (2, .inl y), (3, .inl ((i + 1)))]) [1, 2, 3, 0] rfl ?_
      exact ih (i + 1) ⟨(by omega), (by omega), (hg.trans (by rw [anyI_s (show i < M 4 by omega), show hl2P M x y i = false from decide_eq_false (by omega)]; rfl))⟩ (by show (M 4 - (i + 1)).toNat < (M 4 - i).toNat; omega)
    · refine v_aload_n (pc := 21) hO dX4_hasMessenger_21 rfl ?_
      refine v_iload_n (pc := 22) hO dX4_hasMessenger_22 rfl ?_
      refine v_bipush (pc := 23) hO dX4_hasMessenger_23 (by decide +kernel) ?_
      refine v_callV (pc := 25) (b := am) hO cp_X4 hr.ob (m_ofOrder hr i 7 (by omega) (by omega)) (lw_V q2245 q2247 qs38 q117 q2248) yo_X4_ofOrder rfl rfl rfl (by decide) (by decide) (k2 := 0) (n2 := 0) (by decide) (by decide) (by decide) (by decide) dX4_hasMessenger_25 (fun va hv hp hf1 => ?_)
      obtain ⟨rfl, rfl⟩ := hp
      refine v_iload_n (pc := 28) hO dX4_hasMessenger_28 rfl ?_
      refine v_icmp_ne (pc := 29) (tgt := 45) hO dX4_hasMessenger_29 (by decide) (by first | assumption | exact hr.zA 0 _ | exact hr.zA 8 _ | exact hr.zA 9 _ | exact hr.zS _ | exact hMz _ | exact hMz1 _ | exact zw_R _ | (unfold zR; omega)) (by first | assumption | exact hr.zA 0 _ | exact hr.zA 8 _ | exact hr.zA 9 _ | exact hr.zS _ | exact hMz _ | exact hMz1 _ | exact zw_R _ | (unfold zR; omega)) (fun c29 => ?_) (fun c29 => ?_)
      · refine v_iinc (pc := 45) hO (lv' := [(3, .inl (i + 1)), (0, sref am), (1, .inl x), (2, .inl y)]) dX4_hasMessenger_45 rfl (by decide) rfl ?_
        refine v_goto (pc := 48) (tgt := 2) hO dX4_hasMessenger_48 (by decide) ?_
        refine v_pick (lv2 := [(0, sref am), (1, .inl x), (2, .inl y), (3, .inl ((i + 1)))]) [1, 2, 3, 0] rfl ?_
        exact ih (i + 1) ⟨(by omega), (by omega), (hg.trans (by rw [anyI_s (show i < M 4 by omega), show hl2P M x y i = false from decide_eq_false (by omega)]; rfl))⟩ (by show (M 4 - (i + 1)).toNat < (M 4 - i).toNat; omega)
      · refine v_aload_n (pc := 32) hO dX4_hasMessenger_32 rfl ?_
        refine v_iload_n (pc := 33) hO dX4_hasMessenger_33 rfl ?_
        refine v_bipush (pc := 34) hO dX4_hasMessenger_34 (by decide +kernel) ?_
        refine v_callV (pc := 36) (b := am) hO cp_X4 hr.ob (m_ofOrder hr i 8 (by omega) (by omega)) (lw_V q2245 q2247 qs38 q117 q2248) yo_X4_ofOrder rfl rfl rfl (by decide) (by decide) (k2 := 0) (n2 := 0) (by decide) (by decide) (by decide) (by decide) dX4_hasMessenger_36 (fun va hv hp hf1 => ?_)
        obtain ⟨rfl, rfl⟩ := hp
        refine v_iload_n (pc := 39) hO dX4_hasMessenger_39 rfl ?_
        refine v_icmp_ne (pc := 40) (tgt := 45) hO dX4_hasMessenger_40 (by decide) (by first | assumption | exact hr.zA 0 _ | exact hr.zA 8 _ | exact hr.zA 9 _ | exact hr.zS _ | exact hMz _ | exact hMz1 _ | exact zw_R _ | (unfold zR; omega)) (by first | assumption | exact hr.zA 0 _ | exact hr.zA 8 _ | exact hr.zA 9 _ | exact hr.zS _ | exact hMz _ | exact hMz1 _ | exact zw_R _ | (unfold zR; omega)) (fun c40 => ?_) (fun c40 => ?_)
        · refine v_iinc (pc := 45) hO (lv' := [(3, .inl (i + 1)), (0, sref am), (1, .inl x), (2, .inl y)]) dX4_hasMessenger_45 rfl (by decide) rfl ?_
          refine v_goto (pc := 48) (tgt := 2) hO dX4_hasMessenger_48 (by decide) ?_
          refine v_pick (lv2 := [(0, sref am), (1, .inl x), (2, .inl y), (3, .inl ((i + 1)))]) [1, 2, 3, 0] rfl ?_
          exact ih (i + 1) ⟨(by omega), (by omega), (hg.trans (by rw [anyI_s (show i < M 4 by omega), show hl2P M x y i = false from decide_eq_false (by omega)]; rfl))⟩ (by show (M 4 - (i + 1)).toNat < (M 4 - i).toNat; omega)
        · refine v_iconst (pc := 43) hO dX4_hasMessenger_43 ?_
          exact v_zret hO dX4_hasMessenger_44 rfl (by decide +kernel) (Nat.le_of_ble_eq_true rfl) (Nat.le_of_ble_eq_true rfl) ⟨congrArg (fun z => some (Sum.inl z)) (b2i_t (show msgP M x y from hg.trans (by rw [anyI_s (show i < M 4 by omega), show hl2P M x y i = true from decide_eq_true (by omega)]; rfl))).symm, rfl⟩
theorem yo_X4_symbol : yOK yX4_symbol 2 := by unfold yOK; exact ⟨by decide +kernel, by decide +kernel, by decide +kernel⟩
set_option maxRecDepth 100000 in
theorem m_symbol {G : GT} {h : AH} {am : Nat} {ad : Nat → Nat} {nmf : Int → Option Nat} {S : Nat → Int} {Ar : Nat → Int → Int} {M : Int → Int} (hr : RefAt G h am ad nmf S (rA Ar 0 M)) {A : Nat → Prop} (x y : Int) (zx : inb x 0 11) (zy : inb y 0 11) (hB : Bq M) : CC G yX4_symbol cX4_symbol 4 (some .int) ({ frames := 5, cells := 0, slots := 0, locals := 103 } : Room) A [sref am, .inl x, .inl y] h (fun v h1 => v = some (.inl (symM M x y)) ∧ h = h1) := by
  refine CC.of (by decide +kernel) [(0, sref am), (1, .inl x), (2, .inl y)] rfl (Nat.le_of_ble_eq_true rfl) (fun X hnm hO => ?_)
  have hMz : ∀ z, zR (M z) := fun z => hr.zA 0 z
  have hd := hB.hd
  have h2 := hB.1.2.1
  have h4 := hB.h4
  have h5 := hB.1.2.2.2.1
  have h8 := hB.1.2.2.2.2.1
  have hpics := hB.pics
  have h3 := hpics.1
  have h7 := hB.h7
  have h9m := hB.1.2.2.2.2.2.1
  have hlow := fstI_in (hl1P M x y) (M 2 - 0).toNat 0
  have hlo : -1 ≤ lowM M x y ∧ lowM M x y < 6 := (by unfold lowM; omega)
  have hloz : zR (lowM M x y) := (by unfold zR; omega)
  have hw4 := wchM_in M x y (M 5) h3
  have hwz : zR (wchM M x y (M 5)) := (by unfold zR; omega)
  refine v_aload_n (pc := 0) hO dX4_symbol_0 rfl ?_
  refine v_iload_n (pc := 1) hO dX4_symbol_1 rfl ?_
  refine v_iload_n (pc := 2) hO dX4_symbol_2 rfl ?_
  refine v_callV (pc := 3) (b := am) hO cp_X4 hr.ob (m_lowestIn hr x y (by first | assumption | exact hr.zA 0 _ | exact hr.zA 8 _ | exact hr.zA 9 _ | exact hr.zS _ | exact hMz _ | exact hMz1 _ | (unfold zR; omega)) (by first | assumption | exact hr.zA 0 _ | exact hr.zA 8 _ | exact hr.zA 9 _ | exact hr.zS _ | exact hMz _ | exact hMz1 _ | (unfold zR; omega)) hB) (lw_V q2511 q2513 qs74 q117 q2514) yo_X4_lowestIn rfl rfl rfl (by decide) (by decide) (k2 := 0) (n2 := 0) (by decide) (by decide) (by decide) (by decide) dX4_symbol_3 (fun va hv hp hf1 => ?_)
  obtain ⟨rfl, rfl⟩ := hp
  refine v_istore_n (pc := 6) hO (lv' := [(3, .inl (lowM M x y)), (0, sref am), (1, .inl x), (2, .inl y)]) dX4_symbol_6 (by decide) rfl ?_
  refine v_iload_n (pc := 7) hO dX4_symbol_7 rfl ?_
  refine v_iconst (pc := 8) hO dX4_symbol_8 ?_
  refine v_icmp_eq (pc := 9) (tgt := 17) hO dX4_symbol_9 (by decide) (by first | assumption | exact hr.zA 0 _ | exact hr.zA 8 _ | exact hr.zA 9 _ | exact hr.zS _ | exact hMz _ | exact hMz1 _ | exact zw_R _ | (unfold zR; omega)) (by first | assumption | exact hr.zA 0 _ | exact hr.zA 8 _ | exact hr.zA 9 _ | exact hr.zS _ | exact hMz _ | exact hMz1 _ | exact zw_R _ | (unfold zR; omega)) (fun c9 => ?_) (fun c9 => ?_)
  · refine v_aload_n (pc := 17) hO dX4_symbol_17 rfl ?_
    refine v_iload_n (pc := 18) hO dX4_symbol_18 rfl ?_
    refine v_iload_n (pc := 19) hO dX4_symbol_19 rfl ?_
    refine v_callV (pc := 20) (b := am) hO cp_X4 hr.ob (m_hasMessenger hr x y (by first | assumption | exact hr.zA 0 _ | exact hr.zA 8 _ | exact hr.zA 9 _ | exact hr.zS _ | exact hMz _ | exact hMz1 _ | (unfold zR; omega)) (by first | assumption | exact hr.zA 0 _ | exact hr.zA 8 _ | exact hr.zA 9 _ | exact hr.zS _ | exact hMz _ | exact hMz1 _ | (unfold zR; omega)) hB) (lw_V q2515 q2517 qs75 q117 q2518) yo_X4_hasMessenger rfl rfl rfl (by decide) (by decide) (k2 := 0) (n2 := 0) (by decide) (by decide) (by decide) (by decide) dX4_symbol_20 (fun va hv hp hf1 => ?_)
    obtain ⟨rfl, rfl⟩ := hp
    refine v_ifb_eq (pc := 23) (tgt := 29) hO dX4_symbol_23 (by decide) (fun c23 => ?_) (fun c23 => ?_)
    · refine v_aload_n (pc := 29) hO dX4_symbol_29 rfl ?_
      refine v_getf (pc := 30) (v := sref (ad 0)) hO cp_X4 0 q2125 hr.ob (by decide) rfl dX4_symbol_30 ?_
      refine v_bipush (pc := 33) hO dX4_symbol_33 (by decide +kernel) ?_
      refine r_iald (pc := 35) (w := M 10) (L := 3934) hO hr 0 ri_0 rfl rfl (by omega) (by omega) dX4_symbol_35 ?_
      refine v_iload_n (pc := 36) hO dX4_symbol_36 rfl ?_
      refine v_icmp_ne (pc := 37) (tgt := 54) hO dX4_symbol_37 (by decide) (by first | assumption | exact hr.zA 0 _ | exact hr.zA 8 _ | exact hr.zA 9 _ | exact hr.zS _ | exact hMz _ | exact hMz1 _ | exact zw_R _ | (unfold zR; omega)) (by first | assumption | exact hr.zA 0 _ | exact hr.zA 8 _ | exact hr.zA 9 _ | exact hr.zS _ | exact hMz _ | exact hMz1 _ | exact zw_R _ | (unfold zR; omega)) (fun c37 => ?_) (fun c37 => ?_)
      · refine v_aload_n (pc := 54) hO dX4_symbol_54 rfl ?_
        refine v_iload_n (pc := 55) hO dX4_symbol_55 rfl ?_
        refine v_iload_n (pc := 56) hO dX4_symbol_56 rfl ?_
        refine v_aload_n (pc := 57) hO dX4_symbol_57 rfl ?_
        refine v_callV (pc := 58) (b := am) hO cp_X4 hr.ob (m_turnNow hr) (lw_V q2264 q2266 qs41 q117 q2267) yo_X4_turnNow rfl rfl rfl (by decide) (by decide) (k2 := 0) (n2 := 0) (by decide) (by decide) (by decide) (by decide) dX4_symbol_58 (fun va hv hp hf1 => ?_)
        obtain ⟨rfl, rfl⟩ := hp
        refine v_callV (pc := 61) (b := am) hO cp_X4 hr.ob (m_watcher hr x y (M 5) (by omega) (by omega) (by omega) (by first | assumption | exact hr.zA 0 _ | exact hr.zA 8 _ | exact hr.zA 9 _ | exact hr.zS _ | exact hMz _ | exact hMz1 _ | (unfold zR; omega)) hpics) (lw_V q2329 q2331 qs49 q117 q2332) yo_X4_watcher rfl rfl rfl (by decide) (by decide) (k2 := 0) (n2 := 0) (by decide) (by decide) (by decide) (by decide) dX4_symbol_61 (fun va hv hp hf1 => ?_)
        obtain ⟨rfl, rfl⟩ := hp
        refine v_iconst (pc := 64) hO dX4_symbol_64 ?_
        refine v_icmp_eq (pc := 65) (tgt := 73) hO dX4_symbol_65 (by decide) (by first | assumption | exact hr.zA 0 _ | exact hr.zA 8 _ | exact hr.zA 9 _ | exact hr.zS _ | exact hMz _ | exact hMz1 _ | exact zw_R _ | (unfold zR; omega)) (by first | assumption | exact hr.zA 0 _ | exact hr.zA 8 _ | exact hr.zA 9 _ | exact hr.zS _ | exact hMz _ | exact hMz1 _ | exact zw_R _ | (unfold zR; omega)) (fun c65 => ?_) (fun c65 => ?_)
        · refine v_aload_n (pc := 73) hO dX4_symbol_73 rfl ?_
          refine v_iload_n (pc := 74) hO dX4_symbol_74 rfl ?_
          refine v_iload_n (pc := 75) hO dX4_symbol_75 rfl ?_
          refine v_callV (pc := 76) (b := am) hO cp_X4 hr.ob (m_isFree hr x y (by first | assumption | exact hr.zA 0 _ | exact hr.zA 8 _ | exact hr.zA 9 _ | exact hr.zS _ | exact hMz _ | exact hMz1 _ | (unfold zR; omega)) (by first | assumption | exact hr.zA 0 _ | exact hr.zA 8 _ | exact hr.zA 9 _ | exact hr.zS _ | exact hMz _ | exact hMz1 _ | (unfold zR; omega)) hd) (lw_V q2318 q2320 qs48 q117 q2321) yo_X4_isFree rfl rfl rfl (by decide) (by decide) (k2 := 0) (n2 := 0) (by decide) (by decide) (by decide) (by decide) dX4_symbol_76 (fun va hv hp hf1 => ?_)
          obtain ⟨rfl, rfl⟩ := hp
          refine v_ifb_eq (pc := 79) (tgt := 87) hO dX4_symbol_79 (by decide) (fun c79 => ?_) (fun c79 => ?_)
          · refine v_bipush (pc := 87) hO dX4_symbol_87 (by decide +kernel) ?_
            exact v_iret hO dX4_symbol_89 rfl (Nat.le_of_ble_eq_true rfl) (Nat.le_of_ble_eq_true rfl) ⟨congrArg (fun z => some (Sum.inl z)) (by unfold symM; (repeat' split) <;> first | rfl | omega | (exfalso; first | omega | (simp_all; done))), rfl⟩
          · refine v_bipush (pc := 82) hO dX4_symbol_82 (by decide +kernel) ?_
            refine v_goto (pc := 84) (tgt := 89) hO dX4_symbol_84 (by decide) ?_
            exact v_iret hO dX4_symbol_89 rfl (Nat.le_of_ble_eq_true rfl) (Nat.le_of_ble_eq_true rfl) ⟨congrArg (fun z => some (Sum.inl z)) (by unfold symM; (repeat' split) <;> first | rfl | omega | (exfalso; first | omega | (simp_all; done))), rfl⟩
        · refine v_bipush (pc := 68) hO dX4_symbol_68 (by decide +kernel) ?_
          refine v_goto (pc := 70) (tgt := 89) hO dX4_symbol_70 (by decide) ?_
          exact v_iret hO dX4_symbol_89 rfl (Nat.le_of_ble_eq_true rfl) (Nat.le_of_ble_eq_true rfl) ⟨congrArg (fun z => some (Sum.inl z)) (by unfold symM; (repeat' split) <;> first | rfl | omega | (exfalso; first | omega | (simp_all; done))), rfl⟩
      · refine v_aload_n (pc := 40) hO dX4_symbol_40 rfl ?_
        refine v_getf (pc := 41) (v := sref (ad 0)) hO cp_X4 0 q2125 hr.ob (by decide) rfl dX4_symbol_41 ?_
        refine v_bipush (pc := 44) hO dX4_symbol_44 (by decide +kernel) ?_
        refine r_iald (pc := 46) (w := M 11) (L := 3934) hO hr 0 ri_0 rfl rfl (by omega) (by omega) dX4_symbol_46 ?_
        refine v_iload_n (pc := 47) hO dX4_symbol_47 rfl ?_
        refine v_icmp_ne (pc := 48) (tgt := 54) hO dX4_symbol_48 (by decide) (by first | assumption | exact hr.zA 0 _ | exact hr.zA 8 _ | exact hr.zA 9 _ | exact hr.zS _ | exact hMz _ | exact hMz1 _ | exact zw_R _ | (unfold zR; omega)) (by first | assumption | exact hr.zA 0 _ | exact hr.zA 8 _ | exact hr.zA 9 _ | exact hr.zS _ | exact hMz _ | exact hMz1 _ | exact zw_R _ | (unfold zR; omega)) (fun c48 => ?_) (fun c48 => ?_)
        · refine v_aload_n (pc := 54) hO dX4_symbol_54 rfl ?_
          refine v_iload_n (pc := 55) hO dX4_symbol_55 rfl ?_
          refine v_iload_n (pc := 56) hO dX4_symbol_56 rfl ?_
          refine v_aload_n (pc := 57) hO dX4_symbol_57 rfl ?_
          refine v_callV (pc := 58) (b := am) hO cp_X4 hr.ob (m_turnNow hr) (lw_V q2264 q2266 qs41 q117 q2267) yo_X4_turnNow rfl rfl rfl (by decide) (by decide) (k2 := 0) (n2 := 0) (by decide) (by decide) (by decide) (by decide) dX4_symbol_58 (fun va hv hp hf1 => ?_)
          obtain ⟨rfl, rfl⟩ := hp
          refine v_callV (pc := 61) (b := am) hO cp_X4 hr.ob (m_watcher hr x y (M 5) (by omega) (by omega) (by omega) (by first | assumption | exact hr.zA 0 _ | exact hr.zA 8 _ | exact hr.zA 9 _ | exact hr.zS _ | exact hMz _ | exact hMz1 _ | (unfold zR; omega)) hpics) (lw_V q2329 q2331 qs49 q117 q2332) yo_X4_watcher rfl rfl rfl (by decide) (by decide) (k2 := 0) (n2 := 0) (by decide) (by decide) (by decide) (by decide) dX4_symbol_61 (fun va hv hp hf1 => ?_)
          obtain ⟨rfl, rfl⟩ := hp
          refine v_iconst (pc := 64) hO dX4_symbol_64 ?_
          refine v_icmp_eq (pc := 65) (tgt := 73) hO dX4_symbol_65 (by decide) (by first | assumption | exact hr.zA 0 _ | exact hr.zA 8 _ | exact hr.zA 9 _ | exact hr.zS _ | exact hMz _ | exact hMz1 _ | exact zw_R _ | (unfold zR; omega)) (by first | assumption | exact hr.zA 0 _ | exact hr.zA 8 _ | exact hr.zA 9 _ | exact hr.zS _ | exact hMz _ | exact hMz1 _ | exact zw_R _ | (unfold zR; omega)) (fun c65 => ?_) (fun c65 => ?_)
          · refine v_aload_n (pc := 73) hO dX4_symbol_73 rfl ?_
            refine v_iload_n (pc := 74) hO dX4_symbol_74 rfl ?_
            refine v_iload_n (pc := 75) hO dX4_symbol_75 rfl ?_
            refine v_callV (pc := 76) (b := am) hO cp_X4 hr.ob (m_isFree hr x y (by first | assumption | exact hr.zA 0 _ | exact hr.zA 8 _ | exact hr.zA 9 _ | exact hr.zS _ | exact hMz _ | exact hMz1 _ | (unfold zR; omega)) (by first | assumption | exact hr.zA 0 _ | exact hr.zA 8 _ | exact hr.zA 9 _ | exact hr.zS _ | exact hMz _ | exact hMz1 _ | (unfold zR; omega)) hd) (lw_V q2318 q2320 qs48 q117 q2321) yo_X4_isFree rfl rfl rfl (by decide) (by decide) (k2 := 0) (n2 := 0) (by decide) (by decide) (by decide) (by decide) dX4_symbol_76 (fun va hv hp hf1 => ?_)
            obtain ⟨rfl, rfl⟩ := hp
            refine v_ifb_eq (pc := 79) (tgt := 87) hO dX4_symbol_79 (by decide) (fun c79 => ?_) (fun c79 => ?_)
            · refine v_bipush (pc := 87) hO dX4_symbol_87 (by decide +kernel) ?_
              exact v_iret hO dX4_symbol_89 rfl (Nat.le_of_ble_eq_true rfl) (Nat.le_of_ble_eq_true rfl) ⟨congrArg (fun z => some (Sum.inl z)) (by unfold symM; (repeat' split) <;> first | rfl | omega | (exfalso; first | omega | (simp_all; done))), rfl⟩
            · refine v_bipush (pc := 82) hO dX4_symbol_82 (by decide +kernel) ?_
              refine v_goto (pc := 84) (tgt := 89) hO dX4_symbol_84 (by decide) ?_
              exact v_iret hO dX4_symbol_89 rfl (Nat.le_of_ble_eq_true rfl) (Nat.le_of_ble_eq_true rfl) ⟨congrArg (fun z => some (Sum.inl z)) (by unfold symM; (repeat' split) <;> first | rfl | omega | (exfalso; first | omega | (simp_all; done))), rfl⟩
          · refine v_bipush (pc := 68) hO dX4_symbol_68 (by decide +kernel) ?_
            refine v_goto (pc := 70) (tgt := 89) hO dX4_symbol_70 (by decide) ?_
            exact v_iret hO dX4_symbol_89 rfl (Nat.le_of_ble_eq_true rfl) (Nat.le_of_ble_eq_true rfl) ⟨congrArg (fun z => some (Sum.inl z)) (by unfold symM; (repeat' split) <;> first | rfl | omega | (exfalso; first | omega | (simp_all; done))), rfl⟩
        · refine v_bipush (pc := 51) hO dX4_symbol_51 (by decide +kernel) ?_
          exact v_iret hO dX4_symbol_53 rfl (Nat.le_of_ble_eq_true rfl) (Nat.le_of_ble_eq_true rfl) ⟨congrArg (fun z => some (Sum.inl z)) (by unfold symM; (repeat' split) <;> first | rfl | omega | (exfalso; first | omega | (simp_all; done))), rfl⟩
    · refine v_bipush (pc := 26) hO dX4_symbol_26 (by decide +kernel) ?_
      exact v_iret hO dX4_symbol_28 rfl (Nat.le_of_ble_eq_true rfl) (Nat.le_of_ble_eq_true rfl) ⟨congrArg (fun z => some (Sum.inl z)) (by unfold symM; (repeat' split) <;> first | rfl | omega | (exfalso; first | omega | (simp_all; done))), rfl⟩
  · refine v_bipush (pc := 12) hO dX4_symbol_12 (by decide +kernel) ?_
    refine v_iload_n (pc := 14) hO dX4_symbol_14 rfl ?_
    refine v_iadd (pc := 15) hO dX4_symbol_15 ?_
    exact v_iret hO dX4_symbol_16 rfl (Nat.le_of_ble_eq_true rfl) (Nat.le_of_ble_eq_true rfl) ⟨congrArg (fun z => some (Sum.inl z)) (by unfold symM; (repeat' split) <;> first | rfl | omega | (exfalso; first | omega | (simp_all; done))), rfl⟩
theorem symM_in {M : Int → Int} (hB : Bq M) (x y : Int) : inb (symM M x y) 0 255 := by
  have hlow := fstI_in (hl1P M x y) (M 2 - 0).toNat 0
  have h2 := hB.1.2.1
  have hlo : -1 ≤ lowM M x y ∧ lowM M x y < 6 := (by unfold lowM; omega)
  unfold symM
  (repeat' split) <;> omega
theorem yo_X4_format : yOK yX4_format 1 := by unfold yOK; exact ⟨by decide +kernel, by decide +kernel, by decide +kernel⟩
set_option maxRecDepth 100000 in
theorem m_format {G : GT} {h : AH} {am : Nat} {ad : Nat → Nat} {nmf : Int → Option Nat} {S : Nat → Int} {Ar : Nat → Int → Int} {M : Int → Int} (hr : RefAt G h am ad nmf S (rA Ar 0 M)) {A : Nat → Prop} (hA : ∀ q, RA am ad q → A q) (y : Int) (zy : zR y) (hB : Bq M) : CC G yX4_format cX4_format 3 (some .int) ({ frames := 6, cells := 0, slots := 0, locals := 126 } : Room) A [sref am, .inl y] h (fun v h1 => (¬ inb y 0 (M 1 - 1) ∧ v = some (.inl 0) ∧ RefAt G h1 am ad nmf (rS S 6 1) (rA Ar 0 M)) ∨ (inb y 0 (M 1 - 1) ∧ v = some (.inl (M 0)) ∧ ∃ F, RefAt G h1 am ad nmf (rS (rS S 6 0) 11 (M 0)) (rA (rA Ar 10 F) 0 M) ∧ ∀ q, 0 ≤ q → q < M 0 → F q = symM M q y)) := by
  refine CC.of (by decide +kernel) [(0, sref am), (1, .inl y)] rfl (Nat.le_of_ble_eq_true rfl) (fun X hnm hO => ?_)
  have hMz : ∀ z, zR (M z) := fun z => hr.zA 0 z
  have hd := hB.hd
  have h2 := hB.1.2.1
  have h4 := hB.h4
  have h5 := hB.1.2.2.2.1
  have h8 := hB.1.2.2.2.2.1
  have hpics := hB.pics
  have h3 := hpics.1
  have h7 := hB.h7
  have h9m := hB.1.2.2.2.2.2.1
  refine v_aload_n (pc := 0) hO dX4_format_0 rfl ?_
  refine v_iconst (pc := 1) hO dX4_format_1 ?_
  refine r_puti (pc := 2) (S2 := (rS S 6 0)) hO hr hA 6 rn_6 q2131 rfl (by first | assumption | exact hr.zA 0 _ | exact hr.zA 8 _ | exact hr.zA 9 _ | exact hr.zS _ | exact hMz _ | exact hMz1 _ | exact zw_R _ | (unfold zR; omega)) dX4_format_2 (fun h hr => ?_)
  refine v_iload_n (pc := 5) hO dX4_format_5 rfl ?_
  refine v_iconst (pc := 6) hO dX4_format_6 ?_
  refine v_aload_n (pc := 7) hO dX4_format_7 rfl ?_
  refine v_getf (pc := 8) (v := sref (ad 0)) hO cp_X4 0 q2125 hr.ob (by decide) rfl dX4_format_8 ?_
  refine v_iconst (pc := 11) hO dX4_format_11 ?_
  refine r_iald (pc := 12) (w := M 1) (L := 3934) hO hr 0 ri_0 rfl rfl (by omega) (by omega) dX4_format_12 ?_
  refine v_iconst (pc := 13) hO dX4_format_13 ?_
  refine v_isub (pc := 14) hO dX4_format_14 ?_
  refine v_callS (pc := 15) hO (m_inRange y 0 (M 1 - 1) (by first | assumption | exact hr.zA 0 _ | exact hr.zA 8 _ | exact hr.zA 9 _ | exact hr.zS _ | exact hMz _ | exact hMz1 _ | (unfold zR; omega)) (by first | assumption | exact hr.zA 0 _ | exact hr.zA 8 _ | exact hr.zA 9 _ | exact hr.zS _ | exact hMz _ | exact hMz1 _ | (unfold zR; omega)) (by first | assumption | exact hr.zA 0 _ | exact hr.zA 8 _ | exact hr.zA 9 _ | exact hr.zS _ | exact hMz _ | exact hMz1 _ | (unfold zR; omega))) (lw_S q2219 q2220 q117 q2221) yo_X4_inRange rfl rfl (by decide) (by decide) (k2 := 0) (n2 := 0) (by decide) (by decide) (by decide) (by decide) dX4_format_15 (fun va hv hp hf1 => ?_)
  obtain ⟨rfl, rfl⟩ := hp
  refine v_ifb_ne (pc := 18) (tgt := 27) hO dX4_format_18 (by decide) (fun c18 => ?_) (fun c18 => ?_)
  · refine v_aload_n (pc := 27) hO dX4_format_27 rfl ?_
    refine v_aload_n (pc := 28) hO dX4_format_28 rfl ?_
    refine v_getf (pc := 29) (v := sref (ad 0)) hO cp_X4 0 q2125 hr.ob (by decide) rfl dX4_format_29 ?_
    refine v_iconst (pc := 32) hO dX4_format_32 ?_
    refine r_iald (pc := 33) (w := M 0) (L := 3934) hO hr 0 ri_0 rfl rfl (by omega) (by omega) dX4_format_33 ?_
    refine r_puti (pc := 34) (S2 := (rS (rS S 6 0) 11 (M 0))) hO hr hA 11 rn_11 q2136 rfl (by first | assumption | exact hr.zA 0 _ | exact hr.zA 8 _ | exact hr.zA 9 _ | exact hr.zS _ | exact hMz _ | exact hMz1 _ | exact zw_R _ | (unfold zR; omega)) dX4_format_34 (fun h hr => ?_)
    refine v_iconst (pc := 37) hO dX4_format_37 ?_
    refine v_istore_n (pc := 38) hO (lv' := [(2, .inl 0), (0, sref am), (1, .inl y)]) dX4_format_38 (by decide) rfl ?_
    refine v_pick (lv2 := [(0, sref am), (1, .inl y), (2, .inl 0)]) [1, 2, 0] rfl ?_
    refine v_loop (σ := Int × (Int → Int) × AH) (fun (i, F, hL) => 0 ≤ i ∧ i ≤ M 0 ∧ RefAt G hL am ad nmf (rS (rS S 6 0) 11 (M 0)) (rA (rA Ar 10 F) 0 M) ∧ (∀ q, 0 ≤ q → q < i → F q = symM M q y)) (fun (i, F, hL) => (M 0 - i).toNat) (fun (i, F, hL) => hL) (fun (i, F, hL) => [(0, sref am), (1, .inl y), (2, .inl i)]) (0, Ar 10, _) ⟨Int.le_refl _, (by omega), (by rw [rA_id]; exact hr), (fun q q0 q1 => absurd q1 (by omega))⟩ ?_
    rintro ⟨i, F, hL⟩ ⟨hi0, hi1, hr, hF⟩ ih
    show VV X G A _ _ _ hL _ _ 39 [(0, sref am), (1, .inl y), (2, .inl i)] []
    refine v_iload_n (pc := 39) hO dX4_format_39 rfl ?_
    refine v_aload_n (pc := 40) hO dX4_format_40 rfl ?_
    refine v_getf (pc := 41) (v := .inl (M 0)) hO cp_X4 11 q2136 hr.ob (by decide) rfl dX4_format_41 ?_
    refine v_icmp_ge (pc := 44) (tgt := 65) hO dX4_format_44 (by decide) (by first | assumption | exact hr.zA 0 _ | exact hr.zA 8 _ | exact hr.zA 9 _ | exact hr.zS _ | exact hMz _ | exact hMz1 _ | exact zw_R _ | (unfold zR; omega)) (by first | assumption | exact hr.zA 0 _ | exact hr.zA 8 _ | exact hr.zA 9 _ | exact hr.zS _ | exact hMz _ | exact hMz1 _ | exact zw_R _ | (unfold zR; omega)) (fun c44 => ?_) (fun c44 => ?_)
    · refine v_aload_n (pc := 65) hO dX4_format_65 rfl ?_
      refine v_getf (pc := 66) (v := .inl (M 0)) hO cp_X4 11 q2136 hr.ob (by decide) rfl dX4_format_66 ?_
      exact v_iret hO dX4_format_69 rfl (Nat.le_of_ble_eq_true rfl) (Nat.le_of_ble_eq_true rfl) (Or.inr ⟨by omega, rfl, F, hr, fun q q0 q1 => hF q q0 (by omega)⟩)
    · have hsy := symM_in hB i y
      refine v_aload_n (pc := 47) hO dX4_format_47 rfl ?_
      refine v_getf (pc := 48) (v := sref (ad 10)) hO cp_X4 10 q2135 hr.ob (by decide) rfl dX4_format_48 ?_
      refine v_iload_n (pc := 51) hO dX4_format_51 rfl ?_
      refine v_aload_n (pc := 52) hO dX4_format_52 rfl ?_
      refine v_iload_n (pc := 53) hO dX4_format_53 rfl ?_
      refine v_iload_n (pc := 54) hO dX4_format_54 rfl ?_
      refine v_callV (pc := 55) (b := am) hO cp_X4 hr.ob (m_symbol hr i y (by omega) (by omega) hB) (lw_V q2507 q2509 qs73 q117 q2510) yo_X4_symbol rfl rfl rfl (by decide) (by decide) (k2 := 0) (n2 := 0) (by decide) (by decide) (by decide) (by decide) dX4_format_55 (fun va hv hp hf1 => ?_)
      obtain ⟨rfl, rfl⟩ := hp
      refine r_iast (pc := 58) (Ar2 := (rA (rA Ar 10 (zupd F i (symM M i y))) 0 M)) (L := 12) hO hr hA 10 ri_10 rfl (rA_up (by intro i e; simp only [rA, if_neg e]) rfl) (by omega) (by omega) (by first | assumption | exact hr.zA 0 _ | exact hr.zA 8 _ | exact hr.zA 9 _ | exact hr.zS _ | exact hMz _ | exact hMz1 _ | exact zw_R _ | (unfold zR; omega)) dX4_format_58 (fun h hr => ?_)
      refine v_iinc (pc := 59) hO (lv' := [(2, .inl (i + 1)), (0, sref am), (1, .inl y)]) dX4_format_59 rfl (by decide) rfl ?_
      refine v_goto (pc := 62) (tgt := 39) hO dX4_format_62 (by decide) ?_
      refine v_pick (lv2 := [(0, sref am), (1, .inl y), (2, .inl ((i + 1)))]) [1, 2, 0] rfl ?_
      exact ih (i + 1, zupd F i (symM M i y), _) ⟨(by omega), (by omega), hr, (fun q q0 q1 => if e : q = i then (by subst e; exact zupd_s _ _ _) else (zupd_n e).trans (hF q q0 (by omega)))⟩ (by show (M 0 - (i + 1)).toNat < (M 0 - i).toNat; omega)
  · refine v_aload_n (pc := 21) hO dX4_format_21 rfl ?_
    refine v_iconst (pc := 22) hO dX4_format_22 ?_
    refine v_callV (pc := 23) (b := am) hO cp_X4 hr.ob (m_raise hr hA 1 (by unfold zR; omega)) (lw_V q2222 q2224 qs34 q117 q2225) yo_X4_raise rfl rfl rfl (by decide) (by decide) (k2 := 0) (n2 := 0) (by decide) (by decide) (by decide) (by decide) dX4_format_23 (fun va hv hp hf1 => ?_)
    obtain ⟨rfl, hr⟩ := hp
    rw [rS_rS] at hr
    exact v_iret hO dX4_format_26 rfl (Nat.le_of_ble_eq_true rfl) (Nat.le_of_ble_eq_true rfl) (Or.inl ⟨by omega, rfl, hr⟩)
theorem yo_X4_formattedByte : yOK yX4_formattedByte 1 := by unfold yOK; exact ⟨by decide +kernel, by decide +kernel, by decide +kernel⟩
set_option maxRecDepth 100000 in
theorem m_formattedByte {G : GT} {h : AH} {am : Nat} {ad : Nat → Nat} {nmf : Int → Option Nat} {S : Nat → Int} {Ar : Nat → Int → Int} {M : Int → Int} (hr : RefAt G h am ad nmf S (rA Ar 0 M)) {A : Nat → Prop} (hA : ∀ q, RA am ad q → A q) (i : Int) (zi0 : zR i) (hl : inb (S 11) 0 12) : CC G yX4_formattedByte cX4_formattedByte 2 (some .int) ({ frames := 2, cells := 0, slots := 0, locals := 34 } : Room) A [sref am, .inl i] h (fun v h1 => v = some (.inl (if inb i 0 (S 11 - 1) then Ar 10 i else -1)) ∧ RefAt G h1 am ad nmf (rS S 6 0) (rA Ar 0 M)) := by
  refine CC.of (by decide +kernel) [(0, sref am), (1, .inl i)] rfl (Nat.le_of_ble_eq_true rfl) (fun X hnm hO => ?_)
  have hMz : ∀ z, zR (M z) := fun z => hr.zA 0 z
  refine v_aload_n (pc := 0) hO dX4_formattedByte_0 rfl ?_
  refine v_iconst (pc := 1) hO dX4_formattedByte_1 ?_
  refine r_puti (pc := 2) (S2 := (rS S 6 0)) hO hr hA 6 rn_6 q2131 rfl (by first | assumption | exact hr.zA 0 _ | exact hr.zA 8 _ | exact hr.zA 9 _ | exact hr.zS _ | exact hMz _ | exact hMz1 _ | exact zw_R _ | (unfold zR; omega)) dX4_formattedByte_2 (fun h hr => ?_)
  refine v_iload_n (pc := 5) hO dX4_formattedByte_5 rfl ?_
  refine v_iconst (pc := 6) hO dX4_formattedByte_6 ?_
  refine v_aload_n (pc := 7) hO dX4_formattedByte_7 rfl ?_
  refine v_getf (pc := 8) (v := .inl (S 11)) hO cp_X4 11 q2136 hr.ob (by decide) rfl dX4_formattedByte_8 ?_
  refine v_iconst (pc := 11) hO dX4_formattedByte_11 ?_
  refine v_isub (pc := 12) hO dX4_formattedByte_12 ?_
  refine v_callS (pc := 13) hO (m_inRange i 0 (S 11 - 1) (by first | assumption | exact hr.zA 0 _ | exact hr.zA 8 _ | exact hr.zA 9 _ | exact hr.zS _ | exact hMz _ | exact hMz1 _ | (unfold zR; omega)) (by first | assumption | exact hr.zA 0 _ | exact hr.zA 8 _ | exact hr.zA 9 _ | exact hr.zS _ | exact hMz _ | exact hMz1 _ | (unfold zR; omega)) (by first | assumption | exact hr.zA 0 _ | exact hr.zA 8 _ | exact hr.zA 9 _ | exact hr.zS _ | exact hMz _ | exact hMz1 _ | (unfold zR; omega))) (lw_S q2219 q2220 q117 q2221) yo_X4_inRange rfl rfl (by decide) (by decide) (k2 := 0) (n2 := 0) (by decide) (by decide) (by decide) (by decide) dX4_formattedByte_13 (fun va hv hp hf1 => ?_)
  obtain ⟨rfl, rfl⟩ := hp
  refine v_ifb_eq (pc := 16) (tgt := 28) hO dX4_formattedByte_16 (by decide) (fun c16 => ?_) (fun c16 => ?_)
  · refine v_iconst (pc := 28) hO dX4_formattedByte_28 ?_
    exact v_iret hO dX4_formattedByte_29 rfl (Nat.le_of_ble_eq_true rfl) (Nat.le_of_ble_eq_true rfl) ⟨congrArg (fun z => some (Sum.inl z)) (if_neg (by omega)).symm, hr⟩
  · refine v_aload_n (pc := 19) hO dX4_formattedByte_19 rfl ?_
    refine v_getf (pc := 20) (v := sref (ad 10)) hO cp_X4 10 q2135 hr.ob (by decide) rfl dX4_formattedByte_20 ?_
    refine v_iload_n (pc := 23) hO dX4_formattedByte_23 rfl ?_
    refine r_iald (pc := 24) (w := Ar 10 i) (L := 12) hO hr 10 ri_10 rfl rfl (by omega) (by omega) dX4_formattedByte_24 ?_
    refine v_goto (pc := 25) (tgt := 29) hO dX4_formattedByte_25 (by decide) ?_
    exact v_iret hO dX4_formattedByte_29 rfl (Nat.le_of_ble_eq_true rfl) (Nat.le_of_ble_eq_true rfl) ⟨congrArg (fun z => some (Sum.inl z)) (if_pos (by omega)).symm, hr⟩
