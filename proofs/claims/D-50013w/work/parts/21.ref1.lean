/-! THE REFERENCE, 1: small methods -/
set_option maxRecDepth 100000
abbrev inb (v a b : Int) : Prop := a ≤ v ∧ v ≤ b
abbrev cellM (M : Int → Int) (x y : Int) : Prop := inb x 0 (M 0 - 1) ∧ inb y 0 (M 1 - 1)
abbrev freM (M : Int → Int) (x y : Int) : Prop := cellM M x y ∧ M (784 + 12 * y + x) = 0
abbrev dX (d : Int) : Int := if d = 1 then 1 else if d = 3 then -1 else 0
abbrev dY (d : Int) : Int := if d = 0 then -1 else if d = 2 then 1 else 0
/-- the board's size -/
abbrev dimM (M : Int → Int) : Prop := 3 ≤ M 0 ∧ M 0 ≤ 12 ∧ 3 ≤ M 1 ∧ M 1 ≤ 12
theorem yo_X4_unitAt : yOK yX4_unitAt 2 := by unfold yOK; exact ⟨by decide +kernel, by decide +kernel, by decide +kernel⟩
set_option maxRecDepth 100000 in
theorem m_unitAt {G : GT} {h : AH}  {A : Nat → Prop} (a b : Int) : CC G yX4_unitAt cX4_unitAt 2 (some .int) ({ frames := 1, cells := 0, slots := 0, locals := 12 } : Room) A [.inl a, .inl b] h (fun v h1 => v = some (.inl (12 + 4 * a + b)) ∧ h = h1) := by
  refine CC.of (by decide +kernel) [(0, .inl a), (1, .inl b)] rfl (Nat.le_of_ble_eq_true rfl) (fun X hnm hO => ?_)
  refine v_bipush (pc := 0) hO dX4_unitAt_0 (by decide +kernel) ?_
  refine v_iconst (pc := 2) hO dX4_unitAt_2 ?_
  refine v_iload_n (pc := 3) hO dX4_unitAt_3 rfl ?_
  refine v_imul (pc := 4) hO dX4_unitAt_4 ?_
  refine v_iadd (pc := 5) hO dX4_unitAt_5 ?_
  refine v_iload_n (pc := 6) hO dX4_unitAt_6 rfl ?_
  refine v_iadd (pc := 7) hO dX4_unitAt_7 ?_
  exact v_iret hO dX4_unitAt_8 rfl (Nat.le_of_ble_eq_true rfl) (Nat.le_of_ble_eq_true rfl) ⟨rfl, rfl⟩
theorem yo_X4_picketAt : yOK yX4_picketAt 2 := by unfold yOK; exact ⟨by decide +kernel, by decide +kernel, by decide +kernel⟩
set_option maxRecDepth 100000 in
theorem m_picketAt {G : GT} {h : AH}  {A : Nat → Prop} (a b : Int) : CC G yX4_picketAt cX4_picketAt 2 (some .int) ({ frames := 1, cells := 0, slots := 0, locals := 12 } : Room) A [.inl a, .inl b] h (fun v h1 => v = some (.inl (36 + 7 * a + b)) ∧ h = h1) := by
  refine CC.of (by decide +kernel) [(0, .inl a), (1, .inl b)] rfl (Nat.le_of_ble_eq_true rfl) (fun X hnm hO => ?_)
  refine v_bipush (pc := 0) hO dX4_picketAt_0 (by decide +kernel) ?_
  refine v_bipush (pc := 2) hO dX4_picketAt_2 (by decide +kernel) ?_
  refine v_iload_n (pc := 4) hO dX4_picketAt_4 rfl ?_
  refine v_imul (pc := 5) hO dX4_picketAt_5 ?_
  refine v_iadd (pc := 6) hO dX4_picketAt_6 ?_
  refine v_iload_n (pc := 7) hO dX4_picketAt_7 rfl ?_
  refine v_iadd (pc := 8) hO dX4_picketAt_8 ?_
  exact v_iret hO dX4_picketAt_9 rfl (Nat.le_of_ble_eq_true rfl) (Nat.le_of_ble_eq_true rfl) ⟨rfl, rfl⟩
theorem yo_X4_orderAt : yOK yX4_orderAt 2 := by unfold yOK; exact ⟨by decide +kernel, by decide +kernel, by decide +kernel⟩
set_option maxRecDepth 100000 in
theorem m_orderAt {G : GT} {h : AH}  {A : Nat → Prop} (a b : Int) : CC G yX4_orderAt cX4_orderAt 2 (some .int) ({ frames := 1, cells := 0, slots := 0, locals := 12 } : Room) A [.inl a, .inl b] h (fun v h1 => v = some (.inl (64 + 10 * a + b)) ∧ h = h1) := by
  refine CC.of (by decide +kernel) [(0, .inl a), (1, .inl b)] rfl (Nat.le_of_ble_eq_true rfl) (fun X hnm hO => ?_)
  refine v_bipush (pc := 0) hO dX4_orderAt_0 (by decide +kernel) ?_
  refine v_bipush (pc := 2) hO dX4_orderAt_2 (by decide +kernel) ?_
  refine v_iload_n (pc := 4) hO dX4_orderAt_4 rfl ?_
  refine v_imul (pc := 5) hO dX4_orderAt_5 ?_
  refine v_iadd (pc := 6) hO dX4_orderAt_6 ?_
  refine v_iload_n (pc := 7) hO dX4_orderAt_7 rfl ?_
  refine v_iadd (pc := 8) hO dX4_orderAt_8 ?_
  exact v_iret hO dX4_orderAt_9 rfl (Nat.le_of_ble_eq_true rfl) (Nat.le_of_ble_eq_true rfl) ⟨rfl, rfl⟩
theorem yo_X4_planAt : yOK yX4_planAt 2 := by unfold yOK; exact ⟨by decide +kernel, by decide +kernel, by decide +kernel⟩
set_option maxRecDepth 100000 in
theorem m_planAt {G : GT} {h : AH}  {A : Nat → Prop} (a b : Int) : CC G yX4_planAt cX4_planAt 2 (some .int) ({ frames := 1, cells := 0, slots := 0, locals := 12 } : Room) A [.inl a, .inl b] h (fun v h1 => v = some (.inl (464 + 4 * a + b)) ∧ h = h1) := by
  refine CC.of (by decide +kernel) [(0, .inl a), (1, .inl b)] rfl (Nat.le_of_ble_eq_true rfl) (fun X hnm hO => ?_)
  refine v_sipush (pc := 0) hO dX4_planAt_0 (by decide +kernel) ?_
  refine v_iconst (pc := 3) hO dX4_planAt_3 ?_
  refine v_iload_n (pc := 4) hO dX4_planAt_4 rfl ?_
  refine v_imul (pc := 5) hO dX4_planAt_5 ?_
  refine v_iadd (pc := 6) hO dX4_planAt_6 ?_
  refine v_iload_n (pc := 7) hO dX4_planAt_7 rfl ?_
  refine v_iadd (pc := 8) hO dX4_planAt_8 ?_
  exact v_iret hO dX4_planAt_9 rfl (Nat.le_of_ble_eq_true rfl) (Nat.le_of_ble_eq_true rfl) ⟨rfl, rfl⟩
theorem yo_X4_wasSlot : yOK yX4_wasSlot 2 := by unfold yOK; exact ⟨by decide +kernel, by decide +kernel, by decide +kernel⟩
set_option maxRecDepth 100000 in
theorem m_wasSlot {G : GT} {h : AH}  {A : Nat → Prop} (a b : Int) : CC G yX4_wasSlot cX4_wasSlot 2 (some .int) ({ frames := 1, cells := 0, slots := 0, locals := 12 } : Room) A [.inl a, .inl b] h (fun v h1 => v = some (.inl (928 + 501 * a + b)) ∧ h = h1) := by
  refine CC.of (by decide +kernel) [(0, .inl a), (1, .inl b)] rfl (Nat.le_of_ble_eq_true rfl) (fun X hnm hO => ?_)
  refine v_sipush (pc := 0) hO dX4_wasSlot_0 (by decide +kernel) ?_
  refine v_sipush (pc := 3) hO dX4_wasSlot_3 (by decide +kernel) ?_
  refine v_iload_n (pc := 6) hO dX4_wasSlot_6 rfl ?_
  refine v_imul (pc := 7) hO dX4_wasSlot_7 ?_
  refine v_iadd (pc := 8) hO dX4_wasSlot_8 ?_
  refine v_iload_n (pc := 9) hO dX4_wasSlot_9 rfl ?_
  refine v_iadd (pc := 10) hO dX4_wasSlot_10 ?_
  exact v_iret hO dX4_wasSlot_11 rfl (Nat.le_of_ble_eq_true rfl) (Nat.le_of_ble_eq_true rfl) ⟨rfl, rfl⟩
theorem yo_X4_wallAt : yOK yX4_wallAt 2 := by unfold yOK; exact ⟨by decide +kernel, by decide +kernel, by decide +kernel⟩
set_option maxRecDepth 100000 in
theorem m_wallAt {G : GT} {h : AH}  {A : Nat → Prop} (a b : Int) : CC G yX4_wallAt cX4_wallAt 2 (some .int) ({ frames := 1, cells := 0, slots := 0, locals := 12 } : Room) A [.inl a, .inl b] h (fun v h1 => v = some (.inl (784 + 12 * b + a)) ∧ h = h1) := by
  refine CC.of (by decide +kernel) [(0, .inl a), (1, .inl b)] rfl (Nat.le_of_ble_eq_true rfl) (fun X hnm hO => ?_)
  refine v_sipush (pc := 0) hO dX4_wallAt_0 (by decide +kernel) ?_
  refine v_bipush (pc := 3) hO dX4_wallAt_3 (by decide +kernel) ?_
  refine v_iload_n (pc := 5) hO dX4_wallAt_5 rfl ?_
  refine v_imul (pc := 6) hO dX4_wallAt_6 ?_
  refine v_iadd (pc := 7) hO dX4_wallAt_7 ?_
  refine v_iload_n (pc := 8) hO dX4_wallAt_8 rfl ?_
  refine v_iadd (pc := 9) hO dX4_wallAt_9 ?_
  exact v_iret hO dX4_wallAt_10 rfl (Nat.le_of_ble_eq_true rfl) (Nat.le_of_ble_eq_true rfl) ⟨rfl, rfl⟩
theorem yo_X4_inRange : yOK yX4_inRange 3 := by unfold yOK; exact ⟨by decide +kernel, by decide +kernel, by decide +kernel⟩
set_option maxRecDepth 100000 in
theorem m_inRange {G : GT} {h : AH}  {A : Nat → Prop} (v0 a b : Int) (hv : zR v0) (ha : zR a) (hb : zR b) : CC G yX4_inRange cX4_inRange 3 (some .boolean) ({ frames := 1, cells := 0, slots := 0, locals := 12 } : Room) A [.inl v0, .inl a, .inl b] h (fun v h1 => v = some (.inl (b2i (decide (inb v0 a b)))) ∧ h = h1) := by
  refine CC.of (by decide +kernel) [(0, .inl v0), (1, .inl a), (2, .inl b)] rfl (Nat.le_of_ble_eq_true rfl) (fun X hnm hO => ?_)
  refine v_iload_n (pc := 0) hO dX4_inRange_0 rfl ?_
  refine v_iload_n (pc := 1) hO dX4_inRange_1 rfl ?_
  refine v_icmp_lt (pc := 2) (tgt := 14) hO dX4_inRange_2 (by decide) (by first | assumption | exact hr.zA 0 _ | exact hr.zA 8 _ | exact hr.zA 9 _ | exact hr.zS _ | exact hMz _ | exact hMz1 _ | exact zw_R _ | (unfold zR; omega)) (by first | assumption | exact hr.zA 0 _ | exact hr.zA 8 _ | exact hr.zA 9 _ | exact hr.zS _ | exact hMz _ | exact hMz1 _ | exact zw_R _ | (unfold zR; omega)) (fun c2 => ?_) (fun c2 => ?_)
  · refine v_iconst (pc := 14) hO dX4_inRange_14 ?_
    exact v_zret hO dX4_inRange_15 rfl (by decide +kernel) (Nat.le_of_ble_eq_true rfl) (Nat.le_of_ble_eq_true rfl) ⟨congrArg (fun z => some (Sum.inl z)) (b2i_f (by omega)).symm, rfl⟩
  · refine v_iload_n (pc := 5) hO dX4_inRange_5 rfl ?_
    refine v_iload_n (pc := 6) hO dX4_inRange_6 rfl ?_
    refine v_icmp_gt (pc := 7) (tgt := 14) hO dX4_inRange_7 (by decide) (by first | assumption | exact hr.zA 0 _ | exact hr.zA 8 _ | exact hr.zA 9 _ | exact hr.zS _ | exact hMz _ | exact hMz1 _ | exact zw_R _ | (unfold zR; omega)) (by first | assumption | exact hr.zA 0 _ | exact hr.zA 8 _ | exact hr.zA 9 _ | exact hr.zS _ | exact hMz _ | exact hMz1 _ | exact zw_R _ | (unfold zR; omega)) (fun c7 => ?_) (fun c7 => ?_)
    · refine v_iconst (pc := 14) hO dX4_inRange_14 ?_
      exact v_zret hO dX4_inRange_15 rfl (by decide +kernel) (Nat.le_of_ble_eq_true rfl) (Nat.le_of_ble_eq_true rfl) ⟨congrArg (fun z => some (Sum.inl z)) (b2i_f (by omega)).symm, rfl⟩
    · refine v_iconst (pc := 10) hO dX4_inRange_10 ?_
      refine v_goto (pc := 11) (tgt := 15) hO dX4_inRange_11 (by decide) ?_
      exact v_zret hO dX4_inRange_15 rfl (by decide +kernel) (Nat.le_of_ble_eq_true rfl) (Nat.le_of_ble_eq_true rfl) ⟨congrArg (fun z => some (Sum.inl z)) (b2i_t (by omega)).symm, rfl⟩
theorem yo_X4_thrown : yOK yX4_thrown 0 := by unfold yOK; exact ⟨by decide +kernel, by decide +kernel, by decide +kernel⟩
set_option maxRecDepth 100000 in
theorem m_thrown {G : GT} {h : AH} {am : Nat} {ad : Nat → Nat} {nmf : Int → Option Nat} {S : Nat → Int} {Ar : Nat → Int → Int} {M : Int → Int} (hr : RefAt G h am ad nmf S (rA Ar 0 M)) {A : Nat → Prop}  : CC G yX4_thrown cX4_thrown 1 (some .int) ({ frames := 1, cells := 0, slots := 0, locals := 12 } : Room) A [sref am] h (fun v h1 => v = some (.inl (S 6)) ∧ h = h1) := by
  refine CC.of (by decide +kernel) [(0, sref am)] rfl (Nat.le_of_ble_eq_true rfl) (fun X hnm hO => ?_)
  refine v_aload_n (pc := 0) hO dX4_thrown_0 rfl ?_
  refine v_getf (pc := 1) (v := .inl (S 6)) hO cp_X4 6 q2131 hr.ob (by decide) rfl dX4_thrown_1 ?_
  exact v_iret hO dX4_thrown_4 rfl (Nat.le_of_ble_eq_true rfl) (Nat.le_of_ble_eq_true rfl) ⟨rfl, rfl⟩
theorem yo_X4_turnNow : yOK yX4_turnNow 0 := by unfold yOK; exact ⟨by decide +kernel, by decide +kernel, by decide +kernel⟩
set_option maxRecDepth 100000 in
theorem m_turnNow {G : GT} {h : AH} {am : Nat} {ad : Nat → Nat} {nmf : Int → Option Nat} {S : Nat → Int} {Ar : Nat → Int → Int} {M : Int → Int} (hr : RefAt G h am ad nmf S (rA Ar 0 M)) {A : Nat → Prop}  : CC G yX4_turnNow cX4_turnNow 1 (some .int) ({ frames := 1, cells := 0, slots := 0, locals := 12 } : Room) A [sref am] h (fun v h1 => v = some (.inl (M 5)) ∧ h = h1) := by
  refine CC.of (by decide +kernel) [(0, sref am)] rfl (Nat.le_of_ble_eq_true rfl) (fun X hnm hO => ?_)
  refine v_aload_n (pc := 0) hO dX4_turnNow_0 rfl ?_
  refine v_getf (pc := 1) (v := sref (ad 0)) hO cp_X4 0 q2125 hr.ob (by decide) rfl dX4_turnNow_1 ?_
  refine v_iconst (pc := 4) hO dX4_turnNow_4 ?_
  refine r_iald (pc := 5) (w := M 5) (L := 3934) hO hr 0 ri_0 rfl rfl (by omega) (by omega) dX4_turnNow_5 ?_
  exact v_iret hO dX4_turnNow_6 rfl (Nat.le_of_ble_eq_true rfl) (Nat.le_of_ble_eq_true rfl) ⟨rfl, rfl⟩
theorem yo_X4_ofUnit : yOK yX4_ofUnit 2 := by unfold yOK; exact ⟨by decide +kernel, by decide +kernel, by decide +kernel⟩
set_option maxRecDepth 100000 in
theorem m_ofUnit {G : GT} {h : AH} {am : Nat} {ad : Nat → Nat} {nmf : Int → Option Nat} {S : Nat → Int} {Ar : Nat → Int → Int} {M : Int → Int} (hr : RefAt G h am ad nmf S (rA Ar 0 M)) {A : Nat → Prop} (a b : Int) (h1 : 0 ≤ 12 + 4 * a + b) (h2 : 12 + 4 * a + b < 3934) : CC G yX4_ofUnit cX4_ofUnit 3 (some .int) ({ frames := 2, cells := 0, slots := 0, locals := 33 } : Room) A [sref am, .inl a, .inl b] h (fun v h1 => v = some (.inl (M (12 + 4 * a + b))) ∧ h = h1) := by
  refine CC.of (by decide +kernel) [(0, sref am), (1, .inl a), (2, .inl b)] rfl (Nat.le_of_ble_eq_true rfl) (fun X hnm hO => ?_)
  refine v_aload_n (pc := 0) hO dX4_ofUnit_0 rfl ?_
  refine v_getf (pc := 1) (v := sref (ad 0)) hO cp_X4 0 q2125 hr.ob (by decide) rfl dX4_ofUnit_1 ?_
  refine v_iload_n (pc := 4) hO dX4_ofUnit_4 rfl ?_
  refine v_iload_n (pc := 5) hO dX4_ofUnit_5 rfl ?_
  refine v_callS (pc := 6) hO (m_unitAt a b) (lw_S q2238 q2239 q117 q2240) yo_X4_unitAt rfl rfl (by decide) (by decide) (k2 := 0) (n2 := 0) (by decide) (by decide) (by decide) (by decide) dX4_ofUnit_6 (fun va hv hp hf1 => ?_)
  obtain ⟨rfl, rfl⟩ := hp
  refine r_iald (pc := 9) (w := M (12 + 4 * a + b)) (L := 3934) hO hr 0 ri_0 rfl rfl (by omega) (by omega) dX4_ofUnit_9 ?_
  exact v_iret hO dX4_ofUnit_10 rfl (Nat.le_of_ble_eq_true rfl) (Nat.le_of_ble_eq_true rfl) ⟨rfl, rfl⟩
theorem yo_X4_ofPicket : yOK yX4_ofPicket 2 := by unfold yOK; exact ⟨by decide +kernel, by decide +kernel, by decide +kernel⟩
set_option maxRecDepth 100000 in
theorem m_ofPicket {G : GT} {h : AH} {am : Nat} {ad : Nat → Nat} {nmf : Int → Option Nat} {S : Nat → Int} {Ar : Nat → Int → Int} {M : Int → Int} (hr : RefAt G h am ad nmf S (rA Ar 0 M)) {A : Nat → Prop} (a b : Int) (h1 : 0 ≤ 36 + 7 * a + b) (h2 : 36 + 7 * a + b < 3934) : CC G yX4_ofPicket cX4_ofPicket 3 (some .int) ({ frames := 2, cells := 0, slots := 0, locals := 33 } : Room) A [sref am, .inl a, .inl b] h (fun v h1 => v = some (.inl (M (36 + 7 * a + b))) ∧ h = h1) := by
  refine CC.of (by decide +kernel) [(0, sref am), (1, .inl a), (2, .inl b)] rfl (Nat.le_of_ble_eq_true rfl) (fun X hnm hO => ?_)
  refine v_aload_n (pc := 0) hO dX4_ofPicket_0 rfl ?_
  refine v_getf (pc := 1) (v := sref (ad 0)) hO cp_X4 0 q2125 hr.ob (by decide) rfl dX4_ofPicket_1 ?_
  refine v_iload_n (pc := 4) hO dX4_ofPicket_4 rfl ?_
  refine v_iload_n (pc := 5) hO dX4_ofPicket_5 rfl ?_
  refine v_callS (pc := 6) hO (m_picketAt a b) (lw_S q2276 q2277 q117 q2278) yo_X4_picketAt rfl rfl (by decide) (by decide) (k2 := 0) (n2 := 0) (by decide) (by decide) (by decide) (by decide) dX4_ofPicket_6 (fun va hv hp hf1 => ?_)
  obtain ⟨rfl, rfl⟩ := hp
  refine r_iald (pc := 9) (w := M (36 + 7 * a + b)) (L := 3934) hO hr 0 ri_0 rfl rfl (by omega) (by omega) dX4_ofPicket_9 ?_
  exact v_iret hO dX4_ofPicket_10 rfl (Nat.le_of_ble_eq_true rfl) (Nat.le_of_ble_eq_true rfl) ⟨rfl, rfl⟩
theorem yo_X4_ofOrder : yOK yX4_ofOrder 2 := by unfold yOK; exact ⟨by decide +kernel, by decide +kernel, by decide +kernel⟩
set_option maxRecDepth 100000 in
theorem m_ofOrder {G : GT} {h : AH} {am : Nat} {ad : Nat → Nat} {nmf : Int → Option Nat} {S : Nat → Int} {Ar : Nat → Int → Int} {M : Int → Int} (hr : RefAt G h am ad nmf S (rA Ar 0 M)) {A : Nat → Prop} (a b : Int) (h1 : 0 ≤ 64 + 10 * a + b) (h2 : 64 + 10 * a + b < 3934) : CC G yX4_ofOrder cX4_ofOrder 3 (some .int) ({ frames := 2, cells := 0, slots := 0, locals := 33 } : Room) A [sref am, .inl a, .inl b] h (fun v h1 => v = some (.inl (M (64 + 10 * a + b))) ∧ h = h1) := by
  refine CC.of (by decide +kernel) [(0, sref am), (1, .inl a), (2, .inl b)] rfl (Nat.le_of_ble_eq_true rfl) (fun X hnm hO => ?_)
  refine v_aload_n (pc := 0) hO dX4_ofOrder_0 rfl ?_
  refine v_getf (pc := 1) (v := sref (ad 0)) hO cp_X4 0 q2125 hr.ob (by decide) rfl dX4_ofOrder_1 ?_
  refine v_iload_n (pc := 4) hO dX4_ofOrder_4 rfl ?_
  refine v_iload_n (pc := 5) hO dX4_ofOrder_5 rfl ?_
  refine v_callS (pc := 6) hO (m_orderAt a b) (lw_S q2249 q2250 q117 q2251) yo_X4_orderAt rfl rfl (by decide) (by decide) (k2 := 0) (n2 := 0) (by decide) (by decide) (by decide) (by decide) dX4_ofOrder_6 (fun va hv hp hf1 => ?_)
  obtain ⟨rfl, rfl⟩ := hp
  refine r_iald (pc := 9) (w := M (64 + 10 * a + b)) (L := 3934) hO hr 0 ri_0 rfl rfl (by omega) (by omega) dX4_ofOrder_9 ?_
  exact v_iret hO dX4_ofOrder_10 rfl (Nat.le_of_ble_eq_true rfl) (Nat.le_of_ble_eq_true rfl) ⟨rfl, rfl⟩
theorem yo_X4_isUnit : yOK yX4_isUnit 1 := by unfold yOK; exact ⟨by decide +kernel, by decide +kernel, by decide +kernel⟩
set_option maxRecDepth 100000 in
theorem m_isUnit {G : GT} {h : AH} {am : Nat} {ad : Nat → Nat} {nmf : Int → Option Nat} {S : Nat → Int} {Ar : Nat → Int → Int} {M : Int → Int} (hr : RefAt G h am ad nmf S (rA Ar 0 M)) {A : Nat → Prop} (a : Int) (ha : zR a) (hb : inb (M 2) 0 6) : CC G yX4_isUnit cX4_isUnit 2 (some .boolean) ({ frames := 2, cells := 0, slots := 0, locals := 34 } : Room) A [sref am, .inl a] h (fun v h1 => v = some (.inl (b2i (decide (inb a 0 (M 2 - 1))))) ∧ h = h1) := by
  refine CC.of (by decide +kernel) [(0, sref am), (1, .inl a)] rfl (Nat.le_of_ble_eq_true rfl) (fun X hnm hO => ?_)
  refine v_iload_n (pc := 0) hO dX4_isUnit_0 rfl ?_
  refine v_iconst (pc := 1) hO dX4_isUnit_1 ?_
  refine v_aload_n (pc := 2) hO dX4_isUnit_2 rfl ?_
  refine v_getf (pc := 3) (v := sref (ad 0)) hO cp_X4 0 q2125 hr.ob (by decide) rfl dX4_isUnit_3 ?_
  refine v_iconst (pc := 6) hO dX4_isUnit_6 ?_
  refine r_iald (pc := 7) (w := M 2) (L := 3934) hO hr 0 ri_0 rfl rfl (by omega) (by omega) dX4_isUnit_7 ?_
  refine v_iconst (pc := 8) hO dX4_isUnit_8 ?_
  refine v_isub (pc := 9) hO dX4_isUnit_9 ?_
  refine v_callS (pc := 10) hO (m_inRange a 0 (M 2 - 1) (by first | assumption | exact hr.zA 0 _ | exact hr.zA 8 _ | exact hr.zA 9 _ | exact hr.zS _ | exact hMz _ | exact hMz1 _ | (unfold zR; omega)) (by first | assumption | exact hr.zA 0 _ | exact hr.zA 8 _ | exact hr.zA 9 _ | exact hr.zS _ | exact hMz _ | exact hMz1 _ | (unfold zR; omega)) (by first | assumption | exact hr.zA 0 _ | exact hr.zA 8 _ | exact hr.zA 9 _ | exact hr.zS _ | exact hMz _ | exact hMz1 _ | (unfold zR; omega))) (lw_S q2219 q2220 q117 q2221) yo_X4_inRange rfl rfl (by decide) (by decide) (k2 := 0) (n2 := 0) (by decide) (by decide) (by decide) (by decide) dX4_isUnit_10 (fun va hv hp hf1 => ?_)
  obtain ⟨rfl, rfl⟩ := hp
  exact v_zret hO dX4_isUnit_13 rfl (nar_z (b2i_c _)) (Nat.le_of_ble_eq_true rfl) (Nat.le_of_ble_eq_true rfl) ⟨rfl, rfl⟩
theorem yo_X4_isPicket : yOK yX4_isPicket 1 := by unfold yOK; exact ⟨by decide +kernel, by decide +kernel, by decide +kernel⟩
set_option maxRecDepth 100000 in
theorem m_isPicket {G : GT} {h : AH} {am : Nat} {ad : Nat → Nat} {nmf : Int → Option Nat} {S : Nat → Int} {Ar : Nat → Int → Int} {M : Int → Int} (hr : RefAt G h am ad nmf S (rA Ar 0 M)) {A : Nat → Prop} (a : Int) (ha : zR a) (hb : inb (M 3) 0 4) : CC G yX4_isPicket cX4_isPicket 2 (some .boolean) ({ frames := 2, cells := 0, slots := 0, locals := 34 } : Room) A [sref am, .inl a] h (fun v h1 => v = some (.inl (b2i (decide (inb a 0 (M 3 - 1))))) ∧ h = h1) := by
  refine CC.of (by decide +kernel) [(0, sref am), (1, .inl a)] rfl (Nat.le_of_ble_eq_true rfl) (fun X hnm hO => ?_)
  refine v_iload_n (pc := 0) hO dX4_isPicket_0 rfl ?_
  refine v_iconst (pc := 1) hO dX4_isPicket_1 ?_
  refine v_aload_n (pc := 2) hO dX4_isPicket_2 rfl ?_
  refine v_getf (pc := 3) (v := sref (ad 0)) hO cp_X4 0 q2125 hr.ob (by decide) rfl dX4_isPicket_3 ?_
  refine v_iconst (pc := 6) hO dX4_isPicket_6 ?_
  refine r_iald (pc := 7) (w := M 3) (L := 3934) hO hr 0 ri_0 rfl rfl (by omega) (by omega) dX4_isPicket_7 ?_
  refine v_iconst (pc := 8) hO dX4_isPicket_8 ?_
  refine v_isub (pc := 9) hO dX4_isPicket_9 ?_
  refine v_callS (pc := 10) hO (m_inRange a 0 (M 3 - 1) (by first | assumption | exact hr.zA 0 _ | exact hr.zA 8 _ | exact hr.zA 9 _ | exact hr.zS _ | exact hMz _ | exact hMz1 _ | (unfold zR; omega)) (by first | assumption | exact hr.zA 0 _ | exact hr.zA 8 _ | exact hr.zA 9 _ | exact hr.zS _ | exact hMz _ | exact hMz1 _ | (unfold zR; omega)) (by first | assumption | exact hr.zA 0 _ | exact hr.zA 8 _ | exact hr.zA 9 _ | exact hr.zS _ | exact hMz _ | exact hMz1 _ | (unfold zR; omega))) (lw_S q2219 q2220 q117 q2221) yo_X4_inRange rfl rfl (by decide) (by decide) (k2 := 0) (n2 := 0) (by decide) (by decide) (by decide) (by decide) dX4_isPicket_10 (fun va hv hp hf1 => ?_)
  obtain ⟨rfl, rfl⟩ := hp
  exact v_zret hO dX4_isPicket_13 rfl (nar_z (b2i_c _)) (Nat.le_of_ble_eq_true rfl) (Nat.le_of_ble_eq_true rfl) ⟨rfl, rfl⟩
theorem yo_X4_isOrder : yOK yX4_isOrder 1 := by unfold yOK; exact ⟨by decide +kernel, by decide +kernel, by decide +kernel⟩
set_option maxRecDepth 100000 in
theorem m_isOrder {G : GT} {h : AH} {am : Nat} {ad : Nat → Nat} {nmf : Int → Option Nat} {S : Nat → Int} {Ar : Nat → Int → Int} {M : Int → Int} (hr : RefAt G h am ad nmf S (rA Ar 0 M)) {A : Nat → Prop} (a : Int) (ha : zR a) (hb : inb (M 4) 0 40) : CC G yX4_isOrder cX4_isOrder 2 (some .boolean) ({ frames := 2, cells := 0, slots := 0, locals := 34 } : Room) A [sref am, .inl a] h (fun v h1 => v = some (.inl (b2i (decide (inb a 0 (M 4 - 1))))) ∧ h = h1) := by
  refine CC.of (by decide +kernel) [(0, sref am), (1, .inl a)] rfl (Nat.le_of_ble_eq_true rfl) (fun X hnm hO => ?_)
  refine v_iload_n (pc := 0) hO dX4_isOrder_0 rfl ?_
  refine v_iconst (pc := 1) hO dX4_isOrder_1 ?_
  refine v_aload_n (pc := 2) hO dX4_isOrder_2 rfl ?_
  refine v_getf (pc := 3) (v := sref (ad 0)) hO cp_X4 0 q2125 hr.ob (by decide) rfl dX4_isOrder_3 ?_
  refine v_iconst (pc := 6) hO dX4_isOrder_6 ?_
  refine r_iald (pc := 7) (w := M 4) (L := 3934) hO hr 0 ri_0 rfl rfl (by omega) (by omega) dX4_isOrder_7 ?_
  refine v_iconst (pc := 8) hO dX4_isOrder_8 ?_
  refine v_isub (pc := 9) hO dX4_isOrder_9 ?_
  refine v_callS (pc := 10) hO (m_inRange a 0 (M 4 - 1) (by first | assumption | exact hr.zA 0 _ | exact hr.zA 8 _ | exact hr.zA 9 _ | exact hr.zS _ | exact hMz _ | exact hMz1 _ | (unfold zR; omega)) (by first | assumption | exact hr.zA 0 _ | exact hr.zA 8 _ | exact hr.zA 9 _ | exact hr.zS _ | exact hMz _ | exact hMz1 _ | (unfold zR; omega)) (by first | assumption | exact hr.zA 0 _ | exact hr.zA 8 _ | exact hr.zA 9 _ | exact hr.zS _ | exact hMz _ | exact hMz1 _ | (unfold zR; omega))) (lw_S q2219 q2220 q117 q2221) yo_X4_inRange rfl rfl (by decide) (by decide) (k2 := 0) (n2 := 0) (by decide) (by decide) (by decide) (by decide) dX4_isOrder_10 (fun va hv hp hf1 => ?_)
  obtain ⟨rfl, rfl⟩ := hp
  exact v_zret hO dX4_isOrder_13 rfl (nar_z (b2i_c _)) (Nat.le_of_ble_eq_true rfl) (Nat.le_of_ble_eq_true rfl) ⟨rfl, rfl⟩
theorem yo_X4_isPlan : yOK yX4_isPlan 1 := by unfold yOK; exact ⟨by decide +kernel, by decide +kernel, by decide +kernel⟩
set_option maxRecDepth 100000 in
theorem m_isPlan {G : GT} {h : AH} {am : Nat} {ad : Nat → Nat} {nmf : Int → Option Nat} {S : Nat → Int} {Ar : Nat → Int → Int} {M : Int → Int} (hr : RefAt G h am ad nmf S (rA Ar 0 M)) {A : Nat → Prop} (a : Int) (ha : zR a) (hb : inb (M 8) 0 20) : CC G yX4_isPlan cX4_isPlan 2 (some .boolean) ({ frames := 2, cells := 0, slots := 0, locals := 34 } : Room) A [sref am, .inl a] h (fun v h1 => v = some (.inl (b2i (decide (inb a 0 (M 8 - 1))))) ∧ h = h1) := by
  refine CC.of (by decide +kernel) [(0, sref am), (1, .inl a)] rfl (Nat.le_of_ble_eq_true rfl) (fun X hnm hO => ?_)
  refine v_iload_n (pc := 0) hO dX4_isPlan_0 rfl ?_
  refine v_iconst (pc := 1) hO dX4_isPlan_1 ?_
  refine v_aload_n (pc := 2) hO dX4_isPlan_2 rfl ?_
  refine v_getf (pc := 3) (v := sref (ad 0)) hO cp_X4 0 q2125 hr.ob (by decide) rfl dX4_isPlan_3 ?_
  refine v_bipush (pc := 6) hO dX4_isPlan_6 (by decide +kernel) ?_
  refine r_iald (pc := 8) (w := M 8) (L := 3934) hO hr 0 ri_0 rfl rfl (by omega) (by omega) dX4_isPlan_8 ?_
  refine v_iconst (pc := 9) hO dX4_isPlan_9 ?_
  refine v_isub (pc := 10) hO dX4_isPlan_10 ?_
  refine v_callS (pc := 11) hO (m_inRange a 0 (M 8 - 1) (by first | assumption | exact hr.zA 0 _ | exact hr.zA 8 _ | exact hr.zA 9 _ | exact hr.zS _ | exact hMz _ | exact hMz1 _ | (unfold zR; omega)) (by first | assumption | exact hr.zA 0 _ | exact hr.zA 8 _ | exact hr.zA 9 _ | exact hr.zS _ | exact hMz _ | exact hMz1 _ | (unfold zR; omega)) (by first | assumption | exact hr.zA 0 _ | exact hr.zA 8 _ | exact hr.zA 9 _ | exact hr.zS _ | exact hMz _ | exact hMz1 _ | (unfold zR; omega))) (lw_S q2219 q2220 q117 q2221) yo_X4_inRange rfl rfl (by decide) (by decide) (k2 := 0) (n2 := 0) (by decide) (by decide) (by decide) (by decide) dX4_isPlan_11 (fun va hv hp hf1 => ?_)
  obtain ⟨rfl, rfl⟩ := hp
  exact v_zret hO dX4_isPlan_14 rfl (nar_z (b2i_c _)) (Nat.le_of_ble_eq_true rfl) (Nat.le_of_ble_eq_true rfl) ⟨rfl, rfl⟩
theorem yo_X4_isCell : yOK yX4_isCell 2 := by unfold yOK; exact ⟨by decide +kernel, by decide +kernel, by decide +kernel⟩
set_option maxRecDepth 100000 in
theorem m_isCell {G : GT} {h : AH} {am : Nat} {ad : Nat → Nat} {nmf : Int → Option Nat} {S : Nat → Int} {Ar : Nat → Int → Int} {M : Int → Int} (hr : RefAt G h am ad nmf S (rA Ar 0 M)) {A : Nat → Prop} (x y : Int) (hx : zR x) (hy : zR y) (hd : dimM M) : CC G yX4_isCell cX4_isCell 3 (some .boolean) ({ frames := 2, cells := 0, slots := 0, locals := 34 } : Room) A [sref am, .inl x, .inl y] h (fun v h1 => v = some (.inl (b2i (decide (cellM M x y)))) ∧ h = h1) := by
  refine CC.of (by decide +kernel) [(0, sref am), (1, .inl x), (2, .inl y)] rfl (Nat.le_of_ble_eq_true rfl) (fun X hnm hO => ?_)
  refine v_iload_n (pc := 0) hO dX4_isCell_0 rfl ?_
  refine v_iconst (pc := 1) hO dX4_isCell_1 ?_
  refine v_aload_n (pc := 2) hO dX4_isCell_2 rfl ?_
  refine v_getf (pc := 3) (v := sref (ad 0)) hO cp_X4 0 q2125 hr.ob (by decide) rfl dX4_isCell_3 ?_
  refine v_iconst (pc := 6) hO dX4_isCell_6 ?_
  refine r_iald (pc := 7) (w := M 0) (L := 3934) hO hr 0 ri_0 rfl rfl (by omega) (by omega) dX4_isCell_7 ?_
  refine v_iconst (pc := 8) hO dX4_isCell_8 ?_
  refine v_isub (pc := 9) hO dX4_isCell_9 ?_
  refine v_callS (pc := 10) hO (m_inRange x 0 (M 0 - 1) (by first | assumption | exact hr.zA 0 _ | exact hr.zA 8 _ | exact hr.zA 9 _ | exact hr.zS _ | exact hMz _ | exact hMz1 _ | (unfold zR; omega)) (by first | assumption | exact hr.zA 0 _ | exact hr.zA 8 _ | exact hr.zA 9 _ | exact hr.zS _ | exact hMz _ | exact hMz1 _ | (unfold zR; omega)) (by first | assumption | exact hr.zA 0 _ | exact hr.zA 8 _ | exact hr.zA 9 _ | exact hr.zS _ | exact hMz _ | exact hMz1 _ | (unfold zR; omega))) (lw_S q2219 q2220 q117 q2221) yo_X4_inRange rfl rfl (by decide) (by decide) (k2 := 0) (n2 := 0) (by decide) (by decide) (by decide) (by decide) dX4_isCell_10 (fun va hv hp hf1 => ?_)
  obtain ⟨rfl, rfl⟩ := hp
  refine v_ifb_eq (pc := 13) (tgt := 36) hO dX4_isCell_13 (by decide) (fun c13 => ?_) (fun c13 => ?_)
  · refine v_iconst (pc := 36) hO dX4_isCell_36 ?_
    exact v_zret hO dX4_isCell_37 rfl (by decide +kernel) (Nat.le_of_ble_eq_true rfl) (Nat.le_of_ble_eq_true rfl) ⟨congrArg (fun z => some (Sum.inl z)) (b2i_f (by omega)).symm, rfl⟩
  · refine v_iload_n (pc := 16) hO dX4_isCell_16 rfl ?_
    refine v_iconst (pc := 17) hO dX4_isCell_17 ?_
    refine v_aload_n (pc := 18) hO dX4_isCell_18 rfl ?_
    refine v_getf (pc := 19) (v := sref (ad 0)) hO cp_X4 0 q2125 hr.ob (by decide) rfl dX4_isCell_19 ?_
    refine v_iconst (pc := 22) hO dX4_isCell_22 ?_
    refine r_iald (pc := 23) (w := M 1) (L := 3934) hO hr 0 ri_0 rfl rfl (by omega) (by omega) dX4_isCell_23 ?_
    refine v_iconst (pc := 24) hO dX4_isCell_24 ?_
    refine v_isub (pc := 25) hO dX4_isCell_25 ?_
    refine v_callS (pc := 26) hO (m_inRange y 0 (M 1 - 1) (by first | assumption | exact hr.zA 0 _ | exact hr.zA 8 _ | exact hr.zA 9 _ | exact hr.zS _ | exact hMz _ | exact hMz1 _ | (unfold zR; omega)) (by first | assumption | exact hr.zA 0 _ | exact hr.zA 8 _ | exact hr.zA 9 _ | exact hr.zS _ | exact hMz _ | exact hMz1 _ | (unfold zR; omega)) (by first | assumption | exact hr.zA 0 _ | exact hr.zA 8 _ | exact hr.zA 9 _ | exact hr.zS _ | exact hMz _ | exact hMz1 _ | (unfold zR; omega))) (lw_S q2219 q2220 q117 q2221) yo_X4_inRange rfl rfl (by decide) (by decide) (k2 := 0) (n2 := 0) (by decide) (by decide) (by decide) (by decide) dX4_isCell_26 (fun va hv hp hf1 => ?_)
    obtain ⟨rfl, rfl⟩ := hp
    refine v_ifb_eq (pc := 29) (tgt := 36) hO dX4_isCell_29 (by decide) (fun c29 => ?_) (fun c29 => ?_)
    · refine v_iconst (pc := 36) hO dX4_isCell_36 ?_
      exact v_zret hO dX4_isCell_37 rfl (by decide +kernel) (Nat.le_of_ble_eq_true rfl) (Nat.le_of_ble_eq_true rfl) ⟨congrArg (fun z => some (Sum.inl z)) (b2i_f (by omega)).symm, rfl⟩
    · refine v_iconst (pc := 32) hO dX4_isCell_32 ?_
      refine v_goto (pc := 33) (tgt := 37) hO dX4_isCell_33 (by decide) ?_
      exact v_zret hO dX4_isCell_37 rfl (by decide +kernel) (Nat.le_of_ble_eq_true rfl) (Nat.le_of_ble_eq_true rfl) ⟨congrArg (fun z => some (Sum.inl z)) (b2i_t (by omega)).symm, rfl⟩
theorem yo_X4_isFree : yOK yX4_isFree 2 := by unfold yOK; exact ⟨by decide +kernel, by decide +kernel, by decide +kernel⟩
set_option maxRecDepth 100000 in
theorem m_isFree {G : GT} {h : AH} {am : Nat} {ad : Nat → Nat} {nmf : Int → Option Nat} {S : Nat → Int} {Ar : Nat → Int → Int} {M : Int → Int} (hr : RefAt G h am ad nmf S (rA Ar 0 M)) {A : Nat → Prop} (x y : Int) (hx : zR x) (hy : zR y) (hd : dimM M) : CC G yX4_isFree cX4_isFree 3 (some .boolean) ({ frames := 3, cells := 0, slots := 0, locals := 56 } : Room) A [sref am, .inl x, .inl y] h (fun v h1 => v = some (.inl (b2i (decide (freM M x y)))) ∧ h = h1) := by
  refine CC.of (by decide +kernel) [(0, sref am), (1, .inl x), (2, .inl y)] rfl (Nat.le_of_ble_eq_true rfl) (fun X hnm hO => ?_)
  refine v_aload_n (pc := 0) hO dX4_isFree_0 rfl ?_
  refine v_iload_n (pc := 1) hO dX4_isFree_1 rfl ?_
  refine v_iload_n (pc := 2) hO dX4_isFree_2 rfl ?_
  refine v_callV (pc := 3) (b := am) hO cp_X4 hr.ob (m_isCell hr x y (by first | assumption | exact hr.zA 0 _ | exact hr.zA 8 _ | exact hr.zA 9 _ | exact hr.zS _ | exact hMz _ | exact hMz1 _ | (unfold zR; omega)) (by first | assumption | exact hr.zA 0 _ | exact hr.zA 8 _ | exact hr.zA 9 _ | exact hr.zS _ | exact hMz _ | exact hMz1 _ | (unfold zR; omega)) hd) (lw_V q2314 q2316 qs47 q117 q2317) yo_X4_isCell rfl rfl rfl (by decide) (by decide) (k2 := 0) (n2 := 0) (by decide) (by decide) (by decide) (by decide) dX4_isFree_3 (fun va hv hp hf1 => ?_)
  obtain ⟨rfl, rfl⟩ := hp
  refine v_ifb_eq (pc := 6) (tgt := 26) hO dX4_isFree_6 (by decide) (fun c6 => ?_) (fun c6 => ?_)
  · refine v_iconst (pc := 26) hO dX4_isFree_26 ?_
    exact v_zret hO dX4_isFree_27 rfl (by decide +kernel) (Nat.le_of_ble_eq_true rfl) (Nat.le_of_ble_eq_true rfl) ⟨congrArg (fun z => some (Sum.inl z)) (b2i_f (by omega)).symm, rfl⟩
  · refine v_aload_n (pc := 9) hO dX4_isFree_9 rfl ?_
    refine v_getf (pc := 10) (v := sref (ad 0)) hO cp_X4 0 q2125 hr.ob (by decide) rfl dX4_isFree_10 ?_
    refine v_iload_n (pc := 13) hO dX4_isFree_13 rfl ?_
    refine v_iload_n (pc := 14) hO dX4_isFree_14 rfl ?_
    refine v_callS (pc := 15) hO (m_wallAt x y) (lw_S q2322 q2323 q117 q2324) yo_X4_wallAt rfl rfl (by decide) (by decide) (k2 := 0) (n2 := 0) (by decide) (by decide) (by decide) (by decide) dX4_isFree_15 (fun va hv hp hf1 => ?_)
    obtain ⟨rfl, rfl⟩ := hp
    refine r_iald (pc := 18) (w := M (784 + 12 * y + x)) (L := 3934) hO hr 0 ri_0 rfl rfl (by omega) (by omega) dX4_isFree_18 ?_
    refine v_if_ne (pc := 19) (tgt := 26) hO dX4_isFree_19 (by decide) (by first | assumption | exact hr.zA 0 _ | exact hr.zA 8 _ | exact hr.zA 9 _ | exact hr.zS _ | exact hMz _ | exact hMz1 _ | exact zw_R _ | (unfold zR; omega)) (fun c19 => ?_) (fun c19 => ?_)
    · refine v_iconst (pc := 26) hO dX4_isFree_26 ?_
      exact v_zret hO dX4_isFree_27 rfl (by decide +kernel) (Nat.le_of_ble_eq_true rfl) (Nat.le_of_ble_eq_true rfl) ⟨congrArg (fun z => some (Sum.inl z)) (b2i_f (by omega)).symm, rfl⟩
    · refine v_iconst (pc := 22) hO dX4_isFree_22 ?_
      refine v_goto (pc := 23) (tgt := 27) hO dX4_isFree_23 (by decide) ?_
      exact v_zret hO dX4_isFree_27 rfl (by decide +kernel) (Nat.le_of_ble_eq_true rfl) (Nat.le_of_ble_eq_true rfl) ⟨congrArg (fun z => some (Sum.inl z)) (b2i_t (by omega)).symm, rfl⟩
theorem yo_X4_beside : yOK yX4_beside 2 := by unfold yOK; exact ⟨by decide +kernel, by decide +kernel, by decide +kernel⟩
set_option maxRecDepth 100000 in
theorem m_besideX {G : GT} {h : AH}  {A : Nat → Prop} (d : Int) (hdr : zR d) : CC G yX4_beside cX4_beside 2 (some .int) ({ frames := 1, cells := 0, slots := 0, locals := 12 } : Room) A [.inl d, .inl 1] h (fun v h1 => v = some (.inl (dX d)) ∧ h = h1) := by
  refine CC.of (by decide +kernel) [(0, .inl d), (1, .inl 1)] rfl (Nat.le_of_ble_eq_true rfl) (fun X hnm hO => ?_)
  refine v_iload_n (pc := 0) hO dX4_beside_0 rfl ?_
  refine v_if_eq (pc := 1) (tgt := 24) hO dX4_beside_1 (by decide) (by unfold zR; omega) (fun c1 => absurd c1 (by omega)) (fun c1 => ?_)
  refine v_iload_n (pc := 4) hO dX4_beside_4 rfl ?_
  refine v_iconst (pc := 5) hO dX4_beside_5 ?_
  refine v_icmp_ne (pc := 6) (tgt := 13) hO dX4_beside_6 (by decide) (by first | assumption | exact hr.zA 0 _ | exact hr.zA 8 _ | exact hr.zA 9 _ | exact hr.zS _ | exact hMz _ | exact hMz1 _ | exact zw_R _ | (unfold zR; omega)) (by first | assumption | exact hr.zA 0 _ | exact hr.zA 8 _ | exact hr.zA 9 _ | exact hr.zS _ | exact hMz _ | exact hMz1 _ | exact zw_R _ | (unfold zR; omega)) (fun c6 => ?_) (fun c6 => ?_)
  · refine v_iload_n (pc := 13) hO dX4_beside_13 rfl ?_
    refine v_iconst (pc := 14) hO dX4_beside_14 ?_
    refine v_icmp_ne (pc := 15) (tgt := 22) hO dX4_beside_15 (by decide) (by first | assumption | exact hr.zA 0 _ | exact hr.zA 8 _ | exact hr.zA 9 _ | exact hr.zS _ | exact hMz _ | exact hMz1 _ | exact zw_R _ | (unfold zR; omega)) (by first | assumption | exact hr.zA 0 _ | exact hr.zA 8 _ | exact hr.zA 9 _ | exact hr.zS _ | exact hMz _ | exact hMz1 _ | exact zw_R _ | (unfold zR; omega)) (fun c15 => ?_) (fun c15 => ?_)
    · refine v_iconst (pc := 22) hO dX4_beside_22 ?_
      exact v_iret hO dX4_beside_23 rfl (Nat.le_of_ble_eq_true rfl) (Nat.le_of_ble_eq_true rfl) ⟨congrArg (fun z => some (Sum.inl z)) (by unfold dX; (repeat' split) <;> omega), rfl⟩
    · refine v_iconst (pc := 18) hO dX4_beside_18 ?_
      refine v_goto (pc := 19) (tgt := 23) hO dX4_beside_19 (by decide) ?_
      exact v_iret hO dX4_beside_23 rfl (Nat.le_of_ble_eq_true rfl) (Nat.le_of_ble_eq_true rfl) ⟨congrArg (fun z => some (Sum.inl z)) (by unfold dX; (repeat' split) <;> omega), rfl⟩
  · refine v_iconst (pc := 9) hO dX4_beside_9 ?_
    refine v_goto (pc := 10) (tgt := 23) hO dX4_beside_10 (by decide) ?_
    exact v_iret hO dX4_beside_23 rfl (Nat.le_of_ble_eq_true rfl) (Nat.le_of_ble_eq_true rfl) ⟨congrArg (fun z => some (Sum.inl z)) (by unfold dX; (repeat' split) <;> omega), rfl⟩
set_option maxRecDepth 100000 in
theorem m_besideY {G : GT} {h : AH}  {A : Nat → Prop} (d : Int) (hdr : zR d) : CC G yX4_beside cX4_beside 2 (some .int) ({ frames := 1, cells := 0, slots := 0, locals := 12 } : Room) A [.inl d, .inl 0] h (fun v h1 => v = some (.inl (dY d)) ∧ h = h1) := by
  refine CC.of (by decide +kernel) [(0, .inl d), (1, .inl 0)] rfl (Nat.le_of_ble_eq_true rfl) (fun X hnm hO => ?_)
  refine v_iload_n (pc := 0) hO dX4_beside_0 rfl ?_
  refine v_if_eq (pc := 1) (tgt := 24) hO dX4_beside_1 (by decide) (by unfold zR; omega) (fun c1 => ?_) (fun c1 => absurd c1 (by omega))
  refine v_iload_n (pc := 24) hO dX4_beside_24 rfl ?_
  refine v_if_ne (pc := 25) (tgt := 32) hO dX4_beside_25 (by decide) (by first | assumption | exact hr.zA 0 _ | exact hr.zA 8 _ | exact hr.zA 9 _ | exact hr.zS _ | exact hMz _ | exact hMz1 _ | exact zw_R _ | (unfold zR; omega)) (fun c25 => ?_) (fun c25 => ?_)
  · refine v_iload_n (pc := 32) hO dX4_beside_32 rfl ?_
    refine v_iconst (pc := 33) hO dX4_beside_33 ?_
    refine v_icmp_ne (pc := 34) (tgt := 41) hO dX4_beside_34 (by decide) (by first | assumption | exact hr.zA 0 _ | exact hr.zA 8 _ | exact hr.zA 9 _ | exact hr.zS _ | exact hMz _ | exact hMz1 _ | exact zw_R _ | (unfold zR; omega)) (by first | assumption | exact hr.zA 0 _ | exact hr.zA 8 _ | exact hr.zA 9 _ | exact hr.zS _ | exact hMz _ | exact hMz1 _ | exact zw_R _ | (unfold zR; omega)) (fun c34 => ?_) (fun c34 => ?_)
    · refine v_iconst (pc := 41) hO dX4_beside_41 ?_
      exact v_iret hO dX4_beside_42 rfl (Nat.le_of_ble_eq_true rfl) (Nat.le_of_ble_eq_true rfl) ⟨congrArg (fun z => some (Sum.inl z)) (by unfold dY; (repeat' split) <;> omega), rfl⟩
    · refine v_iconst (pc := 37) hO dX4_beside_37 ?_
      refine v_goto (pc := 38) (tgt := 42) hO dX4_beside_38 (by decide) ?_
      exact v_iret hO dX4_beside_42 rfl (Nat.le_of_ble_eq_true rfl) (Nat.le_of_ble_eq_true rfl) ⟨congrArg (fun z => some (Sum.inl z)) (by unfold dY; (repeat' split) <;> omega), rfl⟩
  · refine v_iconst (pc := 28) hO dX4_beside_28 ?_
    refine v_goto (pc := 29) (tgt := 42) hO dX4_beside_29 (by decide) ?_
    exact v_iret hO dX4_beside_42 rfl (Nat.le_of_ble_eq_true rfl) (Nat.le_of_ble_eq_true rfl) ⟨congrArg (fun z => some (Sum.inl z)) (by unfold dY; (repeat' split) <;> omega), rfl⟩
