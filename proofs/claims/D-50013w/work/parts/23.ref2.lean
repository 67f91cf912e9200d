/-! THE REFERENCE, 2: searches, distances -/
set_option maxRecDepth 100000
abbrev obyP (M : Int → Int) (u o : Int) : Bool := decide (M (64 + 10 * o + 0) = u ∧ M (64 + 10 * o + 3) = 1)
def obyM (M : Int → Int) (u : Int) : Int := fstI (obyP M u) (M 4 - 0).toNat 0
abbrev watP (M : Int → Int) (p t : Int) : Prop := inb (t % M (36 + 7 * p + 3)) (M (36 + 7 * p + 4)) (M (36 + 7 * p + 5))
abbrev nerP (M : Int → Int) (p x y : Int) : Prop := absI (x - M (36 + 7 * p + 0)) ≤ M (36 + 7 * p + 2) ∧ absI (y - M (36 + 7 * p + 1)) ≤ M (36 + 7 * p + 2)
abbrev wchP (M : Int → Int) (x y t p : Int) : Bool := decide (nerP M p x y ∧ watP M p t)
def wchM (M : Int → Int) (x y t : Int) : Int := fstI (wchP M x y t) (M 3 - 0).toNat 0
/-- a picket's numbers -/
abbrev picB (M : Int → Int) (p : Int) : Prop := inb (M (36 + 7 * p + 0)) 0 11 ∧ inb (M (36 + 7 * p + 1)) 0 11 ∧ inb (M (36 + 7 * p + 2)) 0 3 ∧ inb (M (36 + 7 * p + 3)) 1 20 ∧ inb (M (36 + 7 * p + 4)) 0 19 ∧ inb (M (36 + 7 * p + 5)) 0 19
abbrev picsB (M : Int → Int) : Prop := inb (M 3) 0 4 ∧ ∀ p, 0 ≤ p → p < M 3 → picB M p
abbrev thrP (M : Int → Int) (o : Int) : Prop := M (64 + 10 * o + 7) = M (12 + 4 * M (64 + 10 * o + 0) + 0) ∧ M (64 + 10 * o + 8) = M (12 + 4 * M (64 + 10 * o + 0) + 1)
abbrev golP (M : Int → Int) (u o : Int) : Prop := M (12 + 4 * u + 0) = M (64 + 10 * o + 1) ∧ M (12 + 4 * u + 1) = M (64 + 10 * o + 2)
abbrev onwP (M : Int → Int) (u o : Int) : Bool := decide (M (64 + 10 * o + 0) = u ∧ M (64 + 10 * o + 3) = 0)
abbrev staP (M : Int → Int) (t o : Int) : Bool := decide (M (64 + 10 * o + 3) = t)
abbrev stpP (M F : Int → Int) (x y d : Int) : Bool := decide (freM M (x + dX d) (y + dY d) ∧ F (12 * (y + dY d) + (x + dX d)) < F (12 * y + x))
def stpM (M F : Int → Int) (x y : Int) : Int := fstI (stpP M F x y) ((4 : Int) - 0).toNat 0
theorem yo_X4_obeyedBy : yOK yX4_obeyedBy 1 := by unfold yOK; exact ⟨by decide +kernel, by decide +kernel, by decide +kernel⟩
set_option maxRecDepth 100000 in
theorem m_obeyedBy {G : GT} {h : AH} {am : Nat} {ad : Nat → Nat} {nmf : Int → Option Nat} {S : Nat → Int} {Ar : Nat → Int → Int} {M : Int → Int} (hr : RefAt G h am ad nmf S (rA Ar 0 M)) {A : Nat → Prop} (u : Int) (hu : zR u) (hn : inb (M 4) 0 40) : CC G yX4_obeyedBy cX4_obeyedBy 3 (some .int) ({ frames := 3, cells := 0, slots := 0, locals := 55 } : Room) A [sref am, .inl u] h (fun v h1 => v = some (.inl (obyM M u)) ∧ h = h1) := by
  refine CC.of (by decide +kernel) [(0, sref am), (1, .inl u)] rfl (Nat.le_of_ble_eq_true rfl) (fun X hnm hO => ?_)
  refine v_iconst (pc := 0) hO dX4_obeyedBy_0 ?_
  refine v_istore_n (pc := 1) hO (lv' := [(2, .inl 0), (0, sref am), (1, .inl u)]) dX4_obeyedBy_1 (by decide) rfl ?_
  refine v_pick (lv2 := [(0, sref am), (1, .inl u), (2, .inl 0)]) [1, 2, 0] rfl ?_
  refine v_loop (σ := Int) (fun (i : Int) => 0 ≤ i ∧ i ≤ M 4 ∧ obyM M u = fstI (obyP M u) (M 4 - i).toNat i) (fun (i : Int) => (M 4 - i).toNat) (fun (i : Int) => h) (fun (i : Int) => [(0, sref am), (1, .inl u), (2, .inl i)]) (0) ⟨Int.le_refl _, (by omega), rfl⟩ ?_
  rintro i ⟨hi0, hi1, hg⟩ ih
  show VV X G A _ _ _ h _ _ 2 [(0, sref am), (1, .inl u), (2, .inl i)] []
  refine v_iload_n (pc := 2) hO dX4_obeyedBy_2 rfl ?_
  refine v_aload_n (pc := 3) hO dX4_obeyedBy_3 rfl ?_
  refine v_getf (pc := 4) (v := sref (ad 0)) hO cp_X4 0 q2125 hr.ob (by decide) rfl dX4_obeyedBy_4 ?_
  refine v_iconst (pc := 7) hO dX4_obeyedBy_7 ?_
  refine r_iald (pc := 8) (w := M 4) (L := 3934) hO hr 0 ri_0 rfl rfl (by omega) (by omega) dX4_obeyedBy_8 ?_
  refine v_icmp_ge (pc := 9) (tgt := 40) hO dX4_obeyedBy_9 (by decide) (by first | assumption | exact hr.zA 0 _ | exact hr.zA 8 _ | exact hr.zA 9 _ | exact hr.zS _ | exact hMz _ | exact hMz1 _ | exact zw_R _ | (unfold zR; omega)) (by first | assumption | exact hr.zA 0 _ | exact hr.zA 8 _ | exact hr.zA 9 _ | exact hr.zS _ | exact hMz _ | exact hMz1 _ | exact zw_R _ | (unfold zR; omega)) (fun c9 => ?_) (fun c9 => ?_)
  · refine v_iconst (pc := 40) hO dX4_obeyedBy_40 ?_
    exact v_iret hO dX4_obeyedBy_41 rfl (Nat.le_of_ble_eq_true rfl) (Nat.le_of_ble_eq_true rfl) ⟨congrArg (fun z => some (Sum.inl z)) (hg.trans (fstI_e (by omega))).symm, rfl⟩
  · refine v_aload_n (pc := 12) hO dX4_obeyedBy_12 rfl ?_
    refine v_iload_n (pc := 13) hO dX4_obeyedBy_13 rfl ?_
    refine v_iconst (pc := 14) hO dX4_obeyedBy_14 ?_
    refine v_callV (pc := 15) (b := am) hO cp_X4 hr.ob (m_ofOrder hr i 0 (by omega) (by omega)) (lw_V q2245 q2247 qs38 q117 q2248) yo_X4_ofOrder rfl rfl rfl (by decide) (by decide) (k2 := 0) (n2 := 0) (by decide) (by decide) (by decide) (by decide) dX4_obeyedBy_15 (fun va hv hp hf1 => ?_)
    obtain ⟨rfl, rfl⟩ := hp
    refine v_iload_n (pc := 18) hO dX4_obeyedBy_18 rfl ?_
    refine v_icmp_ne (pc := 19) (tgt := 34) hO dX4_obeyedBy_19 (by decide) (by first | assumption | exact hr.zA 0 _ | exact hr.zA 8 _ | exact hr.zA 9 _ | exact hr.zS _ | exact hMz _ | exact hMz1 _ | exact zw_R _ | (unfold zR; omega)) (by first | assumption | exact hr.zA 0 _ | exact hr.zA 8 _ | exact hr.zA 9 _ | exact hr.zS _ | exact hMz _ | exact hMz1 _ | exact zw_R _ | (unfold zR; omega)) (fun c19 => ?_) (fun c19 => ?_)
    · refine v_iinc (pc := 34) hO (lv' := [(2, .inl (i + 1)), (0, sref am), (1, .inl u)]) dX4_obeyedBy_34 rfl (by decide) rfl ?_
      refine v_goto (pc := 37) (tgt := 2) hO dX4_obeyedBy_37 (by decide) ?_
      refine v_pick (lv2 := [(0, sref am), (1, .inl u), (2, .inl ((i + 1)))]) [1, 2, 0] rfl ?_
      exact ih (i + 1) ⟨(by omega), (by omega), (hg.trans (fstI_n (by omega) (fun e => absurd (of_decide_eq_true e) (by omega))))⟩ (by show (M 4 - (i + 1)).toNat < (M 4 - i).toNat; omega)
    · refine v_aload_n (pc := 22) hO dX4_obeyedBy_22 rfl ?_
      refine v_iload_n (pc := 23) hO dX4_obeyedBy_23 rfl ?_
      refine v_iconst (pc := 24) hO dX4_obeyedBy_24 ?_
      refine v_callV (pc := 25) (b := am) hO cp_X4 hr.ob (m_ofOrder hr i 3 (by omega) (by omega)) (lw_V q2245 q2247 qs38 q117 q2248) yo_X4_ofOrder rfl rfl rfl (by decide) (by decide) (k2 := 0) (n2 := 0) (by decide) (by decide) (by decide) (by decide) dX4_obeyedBy_25 (fun va hv hp hf1 => ?_)
      obtain ⟨rfl, rfl⟩ := hp
      refine v_iconst (pc := 28) hO dX4_obeyedBy_28 ?_
      refine v_icmp_ne (pc := 29) (tgt := 34) hO dX4_obeyedBy_29 (by decide) (by first | assumption | exact hr.zA 0 _ | exact hr.zA 8 _ | exact hr.zA 9 _ | exact hr.zS _ | exact hMz _ | exact hMz1 _ | exact zw_R _ | (unfold zR; omega)) (by first | assumption | exact hr.zA 0 _ | exact hr.zA 8 _ | exact hr.zA 9 _ | exact hr.zS _ | exact hMz _ | exact hMz1 _ | exact zw_R _ | (unfold zR; omega)) (fun c29 => ?_) (fun c29 => ?_)
      · refine v_iinc (pc := 34) hO (lv' := [(2, .inl (i + 1)), (0, sref am), (1, .inl u)]) dX4_obeyedBy_34 rfl (by decide) rfl ?_
        refine v_goto (pc := 37) (tgt := 2) hO dX4_obeyedBy_37 (by decide) ?_
        refine v_pick (lv2 := [(0, sref am), (1, .inl u), (2, .inl ((i + 1)))]) [1, 2, 0] rfl ?_
        exact ih (i + 1) ⟨(by omega), (by omega), (hg.trans (fstI_n (by omega) (fun e => absurd (of_decide_eq_true e) (by omega))))⟩ (by show (M 4 - (i + 1)).toNat < (M 4 - i).toNat; omega)
      · refine v_iload_n (pc := 32) hO dX4_obeyedBy_32 rfl ?_
        exact v_iret hO dX4_obeyedBy_33 rfl (Nat.le_of_ble_eq_true rfl) (Nat.le_of_ble_eq_true rfl) ⟨congrArg (fun z => some (Sum.inl z)) (hg.trans (fstI_y (by omega) (decide_eq_true (by omega)))).symm, rfl⟩
theorem yo_X4_watches : yOK yX4_watches 2 := by unfold yOK; exact ⟨by decide +kernel, by decide +kernel, by decide +kernel⟩
set_option maxRecDepth 100000 in
theorem m_watches {G : GT} {h : AH} {am : Nat} {ad : Nat → Nat} {nmf : Int → Option Nat} {S : Nat → Int} {Ar : Nat → Int → Int} {M : Int → Int} (hr : RefAt G h am ad nmf S (rA Ar 0 M)) {A : Nat → Prop} (p t : Int) (h1 : 0 ≤ p) (h2 : p < 4) (ht : 0 ≤ t) (htr : zR t) (hb : picB M p) : CC G yX4_watches cX4_watches 3 (some .boolean) ({ frames := 3, cells := 0, slots := 0, locals := 55 } : Room) A [sref am, .inl p, .inl t] h (fun v h1 => v = some (.inl (b2i (decide (watP M p t)))) ∧ h = h1) := by
  refine CC.of (by decide +kernel) [(0, sref am), (1, .inl p), (2, .inl t)] rfl (Nat.le_of_ble_eq_true rfl) (fun X hnm hO => ?_)
  obtain ⟨b0, b1, b2, b3, b4, b5⟩ := hb; have htr2 := htr; unfold zR at htr2; have em1 := Int.emod_nonneg t (show M (36 + 7 * p + 3) ≠ 0 by omega); have em2 := Int.emod_lt_of_pos t (show 0 < M (36 + 7 * p + 3) by omega)
  refine v_iload_n (pc := 0) hO dX4_watches_0 rfl ?_
  refine v_aload_n (pc := 1) hO dX4_watches_1 rfl ?_
  refine v_iload_n (pc := 2) hO dX4_watches_2 rfl ?_
  refine v_iconst (pc := 3) hO dX4_watches_3 ?_
  refine v_callV (pc := 4) (b := am) hO cp_X4 hr.ob (m_ofPicket hr p 3 (by omega) (by omega)) (lw_V q2272 q2274 qs43 q117 q2275) yo_X4_ofPicket rfl rfl rfl (by decide) (by decide) (k2 := 0) (n2 := 0) (by decide) (by decide) (by decide) (by decide) dX4_watches_4 (fun va hv hp hf1 => ?_)
  obtain ⟨rfl, rfl⟩ := hp
  refine v_irem (pc := 7) hO dX4_watches_7 (by omega) (by first | assumption | exact hr.zA 0 _ | exact hr.zA 8 _ | exact hr.zA 9 _ | exact hr.zS _ | exact hMz _ | exact hMz1 _ | exact zw_R _ | (unfold zR; omega)) (by omega) (by first | assumption | exact hr.zA 0 _ | exact hr.zA 8 _ | exact hr.zA 9 _ | exact hr.zS _ | exact hMz _ | exact hMz1 _ | exact zw_R _ | (unfold zR; omega)) ?_
  refine v_aload_n (pc := 8) hO dX4_watches_8 rfl ?_
  refine v_iload_n (pc := 9) hO dX4_watches_9 rfl ?_
  refine v_iconst (pc := 10) hO dX4_watches_10 ?_
  refine v_callV (pc := 11) (b := am) hO cp_X4 hr.ob (m_ofPicket hr p 4 (by omega) (by omega)) (lw_V q2272 q2274 qs43 q117 q2275) yo_X4_ofPicket rfl rfl rfl (by decide) (by decide) (k2 := 0) (n2 := 0) (by decide) (by decide) (by decide) (by decide) dX4_watches_11 (fun va hv hp hf1 => ?_)
  obtain ⟨rfl, rfl⟩ := hp
  refine v_aload_n (pc := 14) hO dX4_watches_14 rfl ?_
  refine v_iload_n (pc := 15) hO dX4_watches_15 rfl ?_
  refine v_iconst (pc := 16) hO dX4_watches_16 ?_
  refine v_callV (pc := 17) (b := am) hO cp_X4 hr.ob (m_ofPicket hr p 5 (by omega) (by omega)) (lw_V q2272 q2274 qs43 q117 q2275) yo_X4_ofPicket rfl rfl rfl (by decide) (by decide) (k2 := 0) (n2 := 0) (by decide) (by decide) (by decide) (by decide) dX4_watches_17 (fun va hv hp hf1 => ?_)
  obtain ⟨rfl, rfl⟩ := hp
  refine v_callS (pc := 20) hO (m_inRange (t % (M (36 + 7 * p + 3))) (M (36 + 7 * p + 4)) (M (36 + 7 * p + 5)) (by first | assumption | exact hr.zA 0 _ | exact hr.zA 8 _ | exact hr.zA 9 _ | exact hr.zS _ | exact hMz _ | exact hMz1 _ | (unfold zR; omega)) (by first | assumption | exact hr.zA 0 _ | exact hr.zA 8 _ | exact hr.zA 9 _ | exact hr.zS _ | exact hMz _ | exact hMz1 _ | (unfold zR; omega)) (by first | assumption | exact hr.zA 0 _ | exact hr.zA 8 _ | exact hr.zA 9 _ | exact hr.zS _ | exact hMz _ | exact hMz1 _ | (unfold zR; omega))) (lw_S q2219 q2220 q117 q2221) yo_X4_inRange rfl rfl (by decide) (by decide) (k2 := 0) (n2 := 0) (by decide) (by decide) (by decide) (by decide) dX4_watches_20 (fun va hv hp hf1 => ?_)
  obtain ⟨rfl, rfl⟩ := hp
  exact v_zret hO dX4_watches_23 rfl (nar_z (b2i_c _)) (Nat.le_of_ble_eq_true rfl) (Nat.le_of_ble_eq_true rfl) ⟨rfl, rfl⟩
theorem yo_X4_isNear : yOK yX4_isNear 3 := by unfold yOK; exact ⟨by decide +kernel, by decide +kernel, by decide +kernel⟩
set_option maxRecDepth 100000 in
theorem m_isNear {G : GT} {h : AH} {am : Nat} {ad : Nat → Nat} {nmf : Int → Option Nat} {S : Nat → Int} {Ar : Nat → Int → Int} {M : Int → Int} (hr : RefAt G h am ad nmf S (rA Ar 0 M)) {A : Nat → Prop} (p x y : Int) (h1 : 0 ≤ p) (h2 : p < 4) (hx : inb x (-1000) 1000) (hy : inb y (-1000) 1000) (hb : picB M p) : CC G yX4_isNear cX4_isNear 5 (some .boolean) ({ frames := 3, cells := 0, slots := 0, locals := 55 } : Room) A [sref am, .inl p, .inl x, .inl y] h (fun v h1 => v = some (.inl (b2i (decide (nerP M p x y)))) ∧ h = h1) := by
  refine CC.of (by decide +kernel) [(0, sref am), (1, .inl p), (2, .inl x), (3, .inl y)] rfl (Nat.le_of_ble_eq_true rfl) (fun X hnm hO => ?_)
  obtain ⟨b0, b1, b2, b3, b4, b5⟩ := hb; have r1 : zR (absI (x - M (36 + 7 * p + 0))) := (by unfold absI zR; split <;> omega); have r2 : zR (absI (y - M (36 + 7 * p + 1))) := (by unfold absI zR; split <;> omega)
  refine v_aload_n (pc := 0) hO dX4_isNear_0 rfl ?_
  refine v_iload_n (pc := 1) hO dX4_isNear_1 rfl ?_
  refine v_iconst (pc := 2) hO dX4_isNear_2 ?_
  refine v_callV (pc := 3) (b := am) hO cp_X4 hr.ob (m_ofPicket hr p 2 (by omega) (by omega)) (lw_V q2272 q2274 qs43 q117 q2275) yo_X4_ofPicket rfl rfl rfl (by decide) (by decide) (k2 := 0) (n2 := 0) (by decide) (by decide) (by decide) (by decide) dX4_isNear_3 (fun va hv hp hf1 => ?_)
  obtain ⟨rfl, rfl⟩ := hp
  refine v_istore (pc := 6) hO (lv' := [(4, .inl (M (36 + 7 * p + 2))), (0, sref am), (1, .inl p), (2, .inl x), (3, .inl y)]) dX4_isNear_6 (by decide) rfl ?_
  refine v_iload_n (pc := 8) hO dX4_isNear_8 rfl ?_
  refine v_aload_n (pc := 9) hO dX4_isNear_9 rfl ?_
  refine v_iload_n (pc := 10) hO dX4_isNear_10 rfl ?_
  refine v_iconst (pc := 11) hO dX4_isNear_11 ?_
  refine v_callV (pc := 12) (b := am) hO cp_X4 hr.ob (m_ofPicket hr p 0 (by omega) (by omega)) (lw_V q2272 q2274 qs43 q117 q2275) yo_X4_ofPicket rfl rfl rfl (by decide) (by decide) (k2 := 0) (n2 := 0) (by decide) (by decide) (by decide) (by decide) dX4_isNear_12 (fun va hv hp hf1 => ?_)
  obtain ⟨rfl, rfl⟩ := hp
  refine v_isub (pc := 15) hO dX4_isNear_15 ?_
  refine v_mabs (pc := 16) hO q2337 q1467 q118 q1468 (by decide) (Nat.le_of_ble_eq_true rfl) (Nat.le_of_ble_eq_true rfl) (Nat.le_of_ble_eq_true rfl) (by first | assumption | exact hr.zA 0 _ | exact hr.zA 8 _ | exact hr.zA 9 _ | exact hr.zS _ | exact hMz _ | exact hMz1 _ | exact zw_R _ | (unfold zR; omega)) dX4_isNear_16 ?_
  refine v_iload (pc := 19) hO dX4_isNear_19 rfl ?_
  refine v_icmp_gt (pc := 21) (tgt := 44) hO dX4_isNear_21 (by decide) (by first | assumption | exact hr.zA 0 _ | exact hr.zA 8 _ | exact hr.zA 9 _ | exact hr.zS _ | exact hMz _ | exact hMz1 _ | exact zw_R _ | (unfold zR; omega)) (by first | assumption | exact hr.zA 0 _ | exact hr.zA 8 _ | exact hr.zA 9 _ | exact hr.zS _ | exact hMz _ | exact hMz1 _ | exact zw_R _ | (unfold zR; omega)) (fun c21 => ?_) (fun c21 => ?_)
  · refine v_iconst (pc := 44) hO dX4_isNear_44 ?_
    exact v_zret hO dX4_isNear_45 rfl (by decide +kernel) (Nat.le_of_ble_eq_true rfl) (Nat.le_of_ble_eq_true rfl) ⟨congrArg (fun z => some (Sum.inl z)) (b2i_f (by first | exact ⟨by assumption, by assumption⟩ | (intro e; have e1 := e.1; have e2 := e.2; omega))).symm, rfl⟩
  · refine v_iload_n (pc := 24) hO dX4_isNear_24 rfl ?_
    refine v_aload_n (pc := 25) hO dX4_isNear_25 rfl ?_
    refine v_iload_n (pc := 26) hO dX4_isNear_26 rfl ?_
    refine v_iconst (pc := 27) hO dX4_isNear_27 ?_
    refine v_callV (pc := 28) (b := am) hO cp_X4 hr.ob (m_ofPicket hr p 1 (by omega) (by omega)) (lw_V q2272 q2274 qs43 q117 q2275) yo_X4_ofPicket rfl rfl rfl (by decide) (by decide) (k2 := 0) (n2 := 0) (by decide) (by decide) (by decide) (by decide) dX4_isNear_28 (fun va hv hp hf1 => ?_)
    obtain ⟨rfl, rfl⟩ := hp
    refine v_isub (pc := 31) hO dX4_isNear_31 ?_
    refine v_mabs (pc := 32) hO q2337 q1467 q118 q1468 (by decide) (Nat.le_of_ble_eq_true rfl) (Nat.le_of_ble_eq_true rfl) (Nat.le_of_ble_eq_true rfl) (by first | assumption | exact hr.zA 0 _ | exact hr.zA 8 _ | exact hr.zA 9 _ | exact hr.zS _ | exact hMz _ | exact hMz1 _ | exact zw_R _ | (unfold zR; omega)) dX4_isNear_32 ?_
    refine v_iload (pc := 35) hO dX4_isNear_35 rfl ?_
    refine v_icmp_gt (pc := 37) (tgt := 44) hO dX4_isNear_37 (by decide) (by first | assumption | exact hr.zA 0 _ | exact hr.zA 8 _ | exact hr.zA 9 _ | exact hr.zS _ | exact hMz _ | exact hMz1 _ | exact zw_R _ | (unfold zR; omega)) (by first | assumption | exact hr.zA 0 _ | exact hr.zA 8 _ | exact hr.zA 9 _ | exact hr.zS _ | exact hMz _ | exact hMz1 _ | exact zw_R _ | (unfold zR; omega)) (fun c37 => ?_) (fun c37 => ?_)
    · refine v_iconst (pc := 44) hO dX4_isNear_44 ?_
      exact v_zret hO dX4_isNear_45 rfl (by decide +kernel) (Nat.le_of_ble_eq_true rfl) (Nat.le_of_ble_eq_true rfl) ⟨congrArg (fun z => some (Sum.inl z)) (b2i_f (by first | exact ⟨by assumption, by assumption⟩ | (intro e; have e1 := e.1; have e2 := e.2; omega))).symm, rfl⟩
    · refine v_iconst (pc := 40) hO dX4_isNear_40 ?_
      refine v_goto (pc := 41) (tgt := 45) hO dX4_isNear_41 (by decide) ?_
      exact v_zret hO dX4_isNear_45 rfl (by decide +kernel) (Nat.le_of_ble_eq_true rfl) (Nat.le_of_ble_eq_true rfl) ⟨congrArg (fun z => some (Sum.inl z)) (b2i_t (by first | exact ⟨by assumption, by assumption⟩ | (intro e; have e1 := e.1; have e2 := e.2; omega))).symm, rfl⟩
theorem yo_X4_watcher : yOK yX4_watcher 3 := by unfold yOK; exact ⟨by decide +kernel, by decide +kernel, by decide +kernel⟩
set_option maxRecDepth 100000 in
theorem m_watcher {G : GT} {h : AH} {am : Nat} {ad : Nat → Nat} {nmf : Int → Option Nat} {S : Nat → Int} {Ar : Nat → Int → Int} {M : Int → Int} (hr : RefAt G h am ad nmf S (rA Ar 0 M)) {A : Nat → Prop} (x y t : Int) (hx : inb x (-1000) 1000) (hy : inb y (-1000) 1000) (ht : 0 ≤ t) (htr : zR t) (hb : picsB M) : CC G yX4_watcher cX4_watcher 5 (some .int) ({ frames := 4, cells := 0, slots := 0, locals := 79 } : Room) A [sref am, .inl x, .inl y, .inl t] h (fun v h1 => v = some (.inl (wchM M x y t)) ∧ h = h1) := by
  refine CC.of (by decide +kernel) [(0, sref am), (1, .inl x), (2, .inl y), (3, .inl t)] rfl (Nat.le_of_ble_eq_true rfl) (fun X hnm hO => ?_)
  obtain ⟨hb0, hb1⟩ := hb
  refine v_iconst (pc := 0) hO dX4_watcher_0 ?_
  refine v_istore (pc := 1) hO (lv' := [(4, .inl 0), (0, sref am), (1, .inl x), (2, .inl y), (3, .inl t)]) dX4_watcher_1 (by decide) rfl ?_
  refine v_pick (lv2 := [(0, sref am), (1, .inl x), (2, .inl y), (3, .inl t), (4, .inl 0)]) [1, 2, 3, 4, 0] rfl ?_
  refine v_loop (σ := Int) (fun (i : Int) => 0 ≤ i ∧ i ≤ M 3 ∧ wchM M x y t = fstI (wchP M x y t) (M 3 - i).toNat i) (fun (i : Int) => (M 3 - i).toNat) (fun (i : Int) => h) (fun (i : Int) => [(0, sref am), (1, .inl x), (2, .inl y), (3, .inl t), (4, .inl i)]) (0) ⟨Int.le_refl _, (by omega), rfl⟩ ?_
  rintro i ⟨hi0, hi1, hg⟩ ih
  show VV X G A _ _ _ h _ _ 3 [(0, sref am), (1, .inl x), (2, .inl y), (3, .inl t), (4, .inl i)] []
  refine v_iload (pc := 3) hO dX4_watcher_3 rfl ?_
  refine v_aload_n (pc := 5) hO dX4_watcher_5 rfl ?_
  refine v_getf (pc := 6) (v := sref (ad 0)) hO cp_X4 0 q2125 hr.ob (by decide) rfl dX4_watcher_6 ?_
  refine v_iconst (pc := 9) hO dX4_watcher_9 ?_
  refine r_iald (pc := 10) (w := M 3) (L := 3934) hO hr 0 ri_0 rfl rfl (by omega) (by omega) dX4_watcher_10 ?_
  refine v_icmp_ge (pc := 11) (tgt := 44) hO dX4_watcher_11 (by decide) (by first | assumption | exact hr.zA 0 _ | exact hr.zA 8 _ | exact hr.zA 9 _ | exact hr.zS _ | exact hMz _ | exact hMz1 _ | exact zw_R _ | (unfold zR; omega)) (by first | assumption | exact hr.zA 0 _ | exact hr.zA 8 _ | exact hr.zA 9 _ | exact hr.zS _ | exact hMz _ | exact hMz1 _ | exact zw_R _ | (unfold zR; omega)) (fun c11 => ?_) (fun c11 => ?_)
  · refine v_iconst (pc := 44) hO dX4_watcher_44 ?_
    exact v_iret hO dX4_watcher_45 rfl (Nat.le_of_ble_eq_true rfl) (Nat.le_of_ble_eq_true rfl) ⟨congrArg (fun z => some (Sum.inl z)) (hg.trans (fstI_e (by omega))).symm, rfl⟩
  · have hpb := hb1 i (by omega) (by omega)
    refine v_aload_n (pc := 14) hO dX4_watcher_14 rfl ?_
    refine v_iload (pc := 15) hO dX4_watcher_15 rfl ?_
    refine v_iload_n (pc := 17) hO dX4_watcher_17 rfl ?_
    refine v_iload_n (pc := 18) hO dX4_watcher_18 rfl ?_
    refine v_callV (pc := 19) (b := am) hO cp_X4 hr.ob (m_isNear hr i x y (by omega) (by omega) (by omega) (by omega) hpb) (lw_V q2333 q2335 qs50 q117 q2336) yo_X4_isNear rfl rfl rfl (by decide) (by decide) (k2 := 0) (n2 := 0) (by decide) (by decide) (by decide) (by decide) dX4_watcher_19 (fun va hv hp hf1 => ?_)
    obtain ⟨rfl, rfl⟩ := hp
    refine v_ifb_eq (pc := 22) (tgt := 38) hO dX4_watcher_22 (by decide) (fun c22 => ?_) (fun c22 => ?_)
    · refine v_iinc (pc := 38) hO (lv' := [(4, .inl (i + 1)), (0, sref am), (1, .inl x), (2, .inl y), (3, .inl t)]) dX4_watcher_38 rfl (by decide) rfl ?_
      refine v_goto (pc := 41) (tgt := 3) hO dX4_watcher_41 (by decide) ?_
      refine v_pick (lv2 := [(0, sref am), (1, .inl x), (2, .inl y), (3, .inl t), (4, .inl ((i + 1)))]) [1, 2, 3, 4, 0] rfl ?_
      exact ih (i + 1) ⟨(by omega), (by omega), (hg.trans (fstI_n (by omega) (fun e => absurd (of_decide_eq_true e) (by first | omega | (intro e2; first | exact absurd e2.1 (by assumption) | exact absurd e2.2 (by assumption))))))⟩ (by show (M 3 - (i + 1)).toNat < (M 3 - i).toNat; omega)
    · refine v_aload_n (pc := 25) hO dX4_watcher_25 rfl ?_
      refine v_iload (pc := 26) hO dX4_watcher_26 rfl ?_
      refine v_iload_n (pc := 28) hO dX4_watcher_28 rfl ?_
      refine v_callV (pc := 29) (b := am) hO cp_X4 hr.ob (m_watches hr i t (by omega) (by omega) (by omega) (by first | assumption | exact hr.zA 0 _ | exact hr.zA 8 _ | exact hr.zA 9 _ | exact hr.zS _ | exact hMz _ | exact hMz1 _ | (unfold zR; omega)) hpb) (lw_V q2268 q2270 qs42 q117 q2271) yo_X4_watches rfl rfl rfl (by decide) (by decide) (k2 := 0) (n2 := 0) (by decide) (by decide) (by decide) (by decide) dX4_watcher_29 (fun va hv hp hf1 => ?_)
      obtain ⟨rfl, rfl⟩ := hp
      refine v_ifb_eq (pc := 32) (tgt := 38) hO dX4_watcher_32 (by decide) (fun c32 => ?_) (fun c32 => ?_)
      · refine v_iinc (pc := 38) hO (lv' := [(4, .inl (i + 1)), (0, sref am), (1, .inl x), (2, .inl y), (3, .inl t)]) dX4_watcher_38 rfl (by decide) rfl ?_
        refine v_goto (pc := 41) (tgt := 3) hO dX4_watcher_41 (by decide) ?_
        refine v_pick (lv2 := [(0, sref am), (1, .inl x), (2, .inl y), (3, .inl t), (4, .inl ((i + 1)))]) [1, 2, 3, 4, 0] rfl ?_
        exact ih (i + 1) ⟨(by omega), (by omega), (hg.trans (fstI_n (by omega) (fun e => absurd (of_decide_eq_true e) (by first | omega | (intro e2; first | exact absurd e2.1 (by assumption) | exact absurd e2.2 (by assumption))))))⟩ (by show (M 3 - (i + 1)).toNat < (M 3 - i).toNat; omega)
      · refine v_iload (pc := 35) hO dX4_watcher_35 rfl ?_
        exact v_iret hO dX4_watcher_37 rfl (Nat.le_of_ble_eq_true rfl) (Nat.le_of_ble_eq_true rfl) ⟨congrArg (fun z => some (Sum.inl z)) (hg.trans (fstI_y (by omega) (decide_eq_true (by first | omega | exact ⟨by assumption, by assumption⟩)))).symm, rfl⟩
theorem yo_X4_isThere : yOK yX4_isThere 1 := by unfold yOK; exact ⟨by decide +kernel, by decide +kernel, by decide +kernel⟩
set_option maxRecDepth 100000 in
theorem m_isThere {G : GT} {h : AH} {am : Nat} {ad : Nat → Nat} {nmf : Int → Option Nat} {S : Nat → Int} {Ar : Nat → Int → Int} {M : Int → Int} (hr : RefAt G h am ad nmf S (rA Ar 0 M)) {A : Nat → Prop} (o : Int) (h1 : 0 ≤ o) (h2 : o < 40) (hu : inb (M (64 + 10 * o + 0)) 0 5) : CC G yX4_isThere cX4_isThere 3 (some .boolean) ({ frames := 3, cells := 0, slots := 0, locals := 55 } : Room) A [sref am, .inl o] h (fun v h1 => v = some (.inl (b2i (decide (thrP M o)))) ∧ h = h1) := by
  refine CC.of (by decide +kernel) [(0, sref am), (1, .inl o)] rfl (Nat.le_of_ble_eq_true rfl) (fun X hnm hO => ?_)
  refine v_aload_n (pc := 0) hO dX4_isThere_0 rfl ?_
  refine v_iload_n (pc := 1) hO dX4_isThere_1 rfl ?_
  refine v_iconst (pc := 2) hO dX4_isThere_2 ?_
  refine v_callV (pc := 3) (b := am) hO cp_X4 hr.ob (m_ofOrder hr o 0 (by omega) (by omega)) (lw_V q2245 q2247 qs38 q117 q2248) yo_X4_ofOrder rfl rfl rfl (by decide) (by decide) (k2 := 0) (n2 := 0) (by decide) (by decide) (by decide) (by decide) dX4_isThere_3 (fun va hv hp hf1 => ?_)
  obtain ⟨rfl, rfl⟩ := hp
  refine v_istore_n (pc := 6) hO (lv' := [(2, .inl (M (64 + 10 * o + 0))), (0, sref am), (1, .inl o)]) dX4_isThere_6 (by decide) rfl ?_
  refine v_aload_n (pc := 7) hO dX4_isThere_7 rfl ?_
  refine v_iload_n (pc := 8) hO dX4_isThere_8 rfl ?_
  refine v_bipush (pc := 9) hO dX4_isThere_9 (by decide +kernel) ?_
  refine v_callV (pc := 11) (b := am) hO cp_X4 hr.ob (m_ofOrder hr o 7 (by omega) (by omega)) (lw_V q2245 q2247 qs38 q117 q2248) yo_X4_ofOrder rfl rfl rfl (by decide) (by decide) (k2 := 0) (n2 := 0) (by decide) (by decide) (by decide) (by decide) dX4_isThere_11 (fun va hv hp hf1 => ?_)
  obtain ⟨rfl, rfl⟩ := hp
  refine v_aload_n (pc := 14) hO dX4_isThere_14 rfl ?_
  refine v_iload_n (pc := 15) hO dX4_isThere_15 rfl ?_
  refine v_iconst (pc := 16) hO dX4_isThere_16 ?_
  refine v_callV (pc := 17) (b := am) hO cp_X4 hr.ob (m_ofUnit hr (M (64 + 10 * o + 0)) 0 (by omega) (by omega)) (lw_V q2234 q2236 qs36 q117 q2237) yo_X4_ofUnit rfl rfl rfl (by decide) (by decide) (k2 := 0) (n2 := 0) (by decide) (by decide) (by decide) (by decide) dX4_isThere_17 (fun va hv hp hf1 => ?_)
  obtain ⟨rfl, rfl⟩ := hp
  refine v_icmp_ne (pc := 20) (tgt := 43) hO dX4_isThere_20 (by decide) (by first | assumption | exact hr.zA 0 _ | exact hr.zA 8 _ | exact hr.zA 9 _ | exact hr.zS _ | exact hMz _ | exact hMz1 _ | exact zw_R _ | (unfold zR; omega)) (by first | assumption | exact hr.zA 0 _ | exact hr.zA 8 _ | exact hr.zA 9 _ | exact hr.zS _ | exact hMz _ | exact hMz1 _ | exact zw_R _ | (unfold zR; omega)) (fun c20 => ?_) (fun c20 => ?_)
  · refine v_iconst (pc := 43) hO dX4_isThere_43 ?_
    exact v_zret hO dX4_isThere_44 rfl (by decide +kernel) (Nat.le_of_ble_eq_true rfl) (Nat.le_of_ble_eq_true rfl) ⟨congrArg (fun z => some (Sum.inl z)) (b2i_f (by first | omega | (intro e2; first | exact absurd e2.1 (by assumption) | exact absurd e2.2 (by assumption)))).symm, rfl⟩
  · refine v_aload_n (pc := 23) hO dX4_isThere_23 rfl ?_
    refine v_iload_n (pc := 24) hO dX4_isThere_24 rfl ?_
    refine v_bipush (pc := 25) hO dX4_isThere_25 (by decide +kernel) ?_
    refine v_callV (pc := 27) (b := am) hO cp_X4 hr.ob (m_ofOrder hr o 8 (by omega) (by omega)) (lw_V q2245 q2247 qs38 q117 q2248) yo_X4_ofOrder rfl rfl rfl (by decide) (by decide) (k2 := 0) (n2 := 0) (by decide) (by decide) (by decide) (by decide) dX4_isThere_27 (fun va hv hp hf1 => ?_)
    obtain ⟨rfl, rfl⟩ := hp
    refine v_aload_n (pc := 30) hO dX4_isThere_30 rfl ?_
    refine v_iload_n (pc := 31) hO dX4_isThere_31 rfl ?_
    refine v_iconst (pc := 32) hO dX4_isThere_32 ?_
    refine v_callV (pc := 33) (b := am) hO cp_X4 hr.ob (m_ofUnit hr (M (64 + 10 * o + 0)) 1 (by omega) (by omega)) (lw_V q2234 q2236 qs36 q117 q2237) yo_X4_ofUnit rfl rfl rfl (by decide) (by decide) (k2 := 0) (n2 := 0) (by decide) (by decide) (by decide) (by decide) dX4_isThere_33 (fun va hv hp hf1 => ?_)
    obtain ⟨rfl, rfl⟩ := hp
    refine v_icmp_ne (pc := 36) (tgt := 43) hO dX4_isThere_36 (by decide) (by first | assumption | exact hr.zA 0 _ | exact hr.zA 8 _ | exact hr.zA 9 _ | exact hr.zS _ | exact hMz _ | exact hMz1 _ | exact zw_R _ | (unfold zR; omega)) (by first | assumption | exact hr.zA 0 _ | exact hr.zA 8 _ | exact hr.zA 9 _ | exact hr.zS _ | exact hMz _ | exact hMz1 _ | exact zw_R _ | (unfold zR; omega)) (fun c36 => ?_) (fun c36 => ?_)
    · refine v_iconst (pc := 43) hO dX4_isThere_43 ?_
      exact v_zret hO dX4_isThere_44 rfl (by decide +kernel) (Nat.le_of_ble_eq_true rfl) (Nat.le_of_ble_eq_true rfl) ⟨congrArg (fun z => some (Sum.inl z)) (b2i_f (by first | omega | (intro e2; first | exact absurd e2.1 (by assumption) | exact absurd e2.2 (by assumption)))).symm, rfl⟩
    · refine v_iconst (pc := 39) hO dX4_isThere_39 ?_
      refine v_goto (pc := 40) (tgt := 44) hO dX4_isThere_40 (by decide) ?_
      exact v_zret hO dX4_isThere_44 rfl (by decide +kernel) (Nat.le_of_ble_eq_true rfl) (Nat.le_of_ble_eq_true rfl) ⟨congrArg (fun z => some (Sum.inl z)) (b2i_t (by first | omega | exact ⟨by assumption, by assumption⟩)).symm, rfl⟩
theorem yo_X4_isInGoal : yOK yX4_isInGoal 2 := by unfold yOK; exact ⟨by decide +kernel, by decide +kernel, by decide +kernel⟩
set_option maxRecDepth 100000 in
theorem m_isInGoal {G : GT} {h : AH} {am : Nat} {ad : Nat → Nat} {nmf : Int → Option Nat} {S : Nat → Int} {Ar : Nat → Int → Int} {M : Int → Int} (hr : RefAt G h am ad nmf S (rA Ar 0 M)) {A : Nat → Prop} (u o : Int) (g1 : 0 ≤ u) (g2 : u < 6) (h1 : 0 ≤ o) (h2 : o < 40) : CC G yX4_isInGoal cX4_isInGoal 3 (some .boolean) ({ frames := 3, cells := 0, slots := 0, locals := 55 } : Room) A [sref am, .inl u, .inl o] h (fun v h1 => v = some (.inl (b2i (decide (golP M u o)))) ∧ h = h1) := by
  refine CC.of (by decide +kernel) [(0, sref am), (1, .inl u), (2, .inl o)] rfl (Nat.le_of_ble_eq_true rfl) (fun X hnm hO => ?_)
  refine v_aload_n (pc := 0) hO dX4_isInGoal_0 rfl ?_
  refine v_iload_n (pc := 1) hO dX4_isInGoal_1 rfl ?_
  refine v_iconst (pc := 2) hO dX4_isInGoal_2 ?_
  refine v_callV (pc := 3) (b := am) hO cp_X4 hr.ob (m_ofUnit hr u 0 (by omega) (by omega)) (lw_V q2234 q2236 qs36 q117 q2237) yo_X4_ofUnit rfl rfl rfl (by decide) (by decide) (k2 := 0) (n2 := 0) (by decide) (by decide) (by decide) (by decide) dX4_isInGoal_3 (fun va hv hp hf1 => ?_)
  obtain ⟨rfl, rfl⟩ := hp
  refine v_aload_n (pc := 6) hO dX4_isInGoal_6 rfl ?_
  refine v_iload_n (pc := 7) hO dX4_isInGoal_7 rfl ?_
  refine v_iconst (pc := 8) hO dX4_isInGoal_8 ?_
  refine v_callV (pc := 9) (b := am) hO cp_X4 hr.ob (m_ofOrder hr o 1 (by omega) (by omega)) (lw_V q2245 q2247 qs38 q117 q2248) yo_X4_ofOrder rfl rfl rfl (by decide) (by decide) (k2 := 0) (n2 := 0) (by decide) (by decide) (by decide) (by decide) dX4_isInGoal_9 (fun va hv hp hf1 => ?_)
  obtain ⟨rfl, rfl⟩ := hp
  refine v_icmp_ne (pc := 12) (tgt := 34) hO dX4_isInGoal_12 (by decide) (by first | assumption | exact hr.zA 0 _ | exact hr.zA 8 _ | exact hr.zA 9 _ | exact hr.zS _ | exact hMz _ | exact hMz1 _ | exact zw_R _ | (unfold zR; omega)) (by first | assumption | exact hr.zA 0 _ | exact hr.zA 8 _ | exact hr.zA 9 _ | exact hr.zS _ | exact hMz _ | exact hMz1 _ | exact zw_R _ | (unfold zR; omega)) (fun c12 => ?_) (fun c12 => ?_)
  · refine v_iconst (pc := 34) hO dX4_isInGoal_34 ?_
    exact v_zret hO dX4_isInGoal_35 rfl (by decide +kernel) (Nat.le_of_ble_eq_true rfl) (Nat.le_of_ble_eq_true rfl) ⟨congrArg (fun z => some (Sum.inl z)) (b2i_f (by first | omega | (intro e2; first | exact absurd e2.1 (by assumption) | exact absurd e2.2 (by assumption)))).symm, rfl⟩
  · refine v_aload_n (pc := 15) hO dX4_isInGoal_15 rfl ?_
    refine v_iload_n (pc := 16) hO dX4_isInGoal_16 rfl ?_
    refine v_iconst (pc := 17) hO dX4_isInGoal_17 ?_
    refine v_callV (pc := 18) (b := am) hO cp_X4 hr.ob (m_ofUnit hr u 1 (by omega) (by omega)) (lw_V q2234 q2236 qs36 q117 q2237) yo_X4_ofUnit rfl rfl rfl (by decide) (by decide) (k2 := 0) (n2 := 0) (by decide) (by decide) (by decide) (by decide) dX4_isInGoal_18 (fun va hv hp hf1 => ?_)
    obtain ⟨rfl, rfl⟩ := hp
    refine v_aload_n (pc := 21) hO dX4_isInGoal_21 rfl ?_
    refine v_iload_n (pc := 22) hO dX4_isInGoal_22 rfl ?_
    refine v_iconst (pc := 23) hO dX4_isInGoal_23 ?_
    refine v_callV (pc := 24) (b := am) hO cp_X4 hr.ob (m_ofOrder hr o 2 (by omega) (by omega)) (lw_V q2245 q2247 qs38 q117 q2248) yo_X4_ofOrder rfl rfl rfl (by decide) (by decide) (k2 := 0) (n2 := 0) (by decide) (by decide) (by decide) (by decide) dX4_isInGoal_24 (fun va hv hp hf1 => ?_)
    obtain ⟨rfl, rfl⟩ := hp
    refine v_icmp_ne (pc := 27) (tgt := 34) hO dX4_isInGoal_27 (by decide) (by first | assumption | exact hr.zA 0 _ | exact hr.zA 8 _ | exact hr.zA 9 _ | exact hr.zS _ | exact hMz _ | exact hMz1 _ | exact zw_R _ | (unfold zR; omega)) (by first | assumption | exact hr.zA 0 _ | exact hr.zA 8 _ | exact hr.zA 9 _ | exact hr.zS _ | exact hMz _ | exact hMz1 _ | exact zw_R _ | (unfold zR; omega)) (fun c27 => ?_) (fun c27 => ?_)
    · refine v_iconst (pc := 34) hO dX4_isInGoal_34 ?_
      exact v_zret hO dX4_isInGoal_35 rfl (by decide +kernel) (Nat.le_of_ble_eq_true rfl) (Nat.le_of_ble_eq_true rfl) ⟨congrArg (fun z => some (Sum.inl z)) (b2i_f (by first | omega | (intro e2; first | exact absurd e2.1 (by assumption) | exact absurd e2.2 (by assumption)))).symm, rfl⟩
    · refine v_iconst (pc := 30) hO dX4_isInGoal_30 ?_
      refine v_goto (pc := 31) (tgt := 35) hO dX4_isInGoal_31 (by decide) ?_
      exact v_zret hO dX4_isInGoal_35 rfl (by decide +kernel) (Nat.le_of_ble_eq_true rfl) (Nat.le_of_ble_eq_true rfl) ⟨congrArg (fun z => some (Sum.inl z)) (b2i_t (by first | omega | exact ⟨by assumption, by assumption⟩)).symm, rfl⟩
def onwM (M : Int → Int) (u : Int) : Int := cntI (onwP M u) (M 4 - 0).toNat 0
def stcM (M : Int → Int) (t : Int) : Int := cntI (staP M t) (M 4 - 0).toNat 0
theorem yo_X4_onWayTo : yOK yX4_onWayTo 1 := by unfold yOK; exact ⟨by decide +kernel, by decide +kernel, by decide +kernel⟩
set_option maxRecDepth 100000 in
theorem m_onWayTo {G : GT} {h : AH} {am : Nat} {ad : Nat → Nat} {nmf : Int → Option Nat} {S : Nat → Int} {Ar : Nat → Int → Int} {M : Int → Int} (hr : RefAt G h am ad nmf S (rA Ar 0 M)) {A : Nat → Prop} (u : Int) (hu : zR u) (hn : inb (M 4) 0 40) : CC G yX4_onWayTo cX4_onWayTo 4 (some .int) ({ frames := 3, cells := 0, slots := 0, locals := 55 } : Room) A [sref am, .inl u] h (fun v h1 => v = some (.inl (onwM M u)) ∧ h = h1) := by
  refine CC.of (by decide +kernel) [(0, sref am), (1, .inl u)] rfl (Nat.le_of_ble_eq_true rfl) (fun X hnm hO => ?_)
  refine v_iconst (pc := 0) hO dX4_onWayTo_0 ?_
  refine v_istore_n (pc := 1) hO (lv' := [(2, .inl 0), (0, sref am), (1, .inl u)]) dX4_onWayTo_1 (by decide) rfl ?_
  refine v_iconst (pc := 2) hO dX4_onWayTo_2 ?_
  refine v_istore_n (pc := 3) hO (lv' := [(3, .inl 0), (2, .inl 0), (0, sref am), (1, .inl u)]) dX4_onWayTo_3 (by decide) rfl ?_
  refine v_pick (lv2 := [(0, sref am), (1, .inl u), (2, .inl 0), (3, .inl 0)]) [2, 3, 1, 0] rfl ?_
  refine v_loop (σ := Int × Int) (fun (i, q) => 0 ≤ i ∧ i ≤ M 4 ∧ 0 ≤ q ∧ q ≤ i ∧ onwM M u = q + cntI (onwP M u) (M 4 - i).toNat i) (fun (i, q) => (M 4 - i).toNat) (fun (i, q) => h) (fun (i, q) => [(0, sref am), (1, .inl u), (2, .inl q), (3, .inl i)]) (0, 0) ⟨Int.le_refl _, (by omega), Int.le_refl _, Int.le_refl _, (by unfold onwM; omega)⟩ ?_
  rintro ⟨i, q⟩ ⟨hi0, hi1, hq0, hq1, hg⟩ ih
  show VV X G A _ _ _ h _ _ 4 [(0, sref am), (1, .inl u), (2, .inl q), (3, .inl i)] []
  refine v_iload_n (pc := 4) hO dX4_onWayTo_4 rfl ?_
  refine v_aload_n (pc := 5) hO dX4_onWayTo_5 rfl ?_
  refine v_getf (pc := 6) (v := sref (ad 0)) hO cp_X4 0 q2125 hr.ob (by decide) rfl dX4_onWayTo_6 ?_
  refine v_iconst (pc := 9) hO dX4_onWayTo_9 ?_
  refine r_iald (pc := 10) (w := M 4) (L := 3934) hO hr 0 ri_0 rfl rfl (by omega) (by omega) dX4_onWayTo_10 ?_
  refine v_icmp_ge (pc := 11) (tgt := 47) hO dX4_onWayTo_11 (by decide) (by first | assumption | exact hr.zA 0 _ | exact hr.zA 8 _ | exact hr.zA 9 _ | exact hr.zS _ | exact hMz _ | exact hMz1 _ | exact zw_R _ | (unfold zR; omega)) (by first | assumption | exact hr.zA 0 _ | exact hr.zA 8 _ | exact hr.zA 9 _ | exact hr.zS _ | exact hMz _ | exact hMz1 _ | exact zw_R _ | (unfold zR; omega)) (fun c11 => ?_) (fun c11 => ?_)
  · refine v_iload_n (pc := 47) hO dX4_onWayTo_47 rfl ?_
    exact v_iret hO dX4_onWayTo_48 rfl (Nat.le_of_ble_eq_true rfl) (Nat.le_of_ble_eq_true rfl) ⟨congrArg (fun z => some (Sum.inl z)) (by have e9 := cntI_e (p := onwP M u) (show M 4 ≤ i by omega); omega), rfl⟩
  · refine v_iload_n (pc := 14) hO dX4_onWayTo_14 rfl ?_
    refine v_aload_n (pc := 15) hO dX4_onWayTo_15 rfl ?_
    refine v_iload_n (pc := 16) hO dX4_onWayTo_16 rfl ?_
    refine v_iconst (pc := 17) hO dX4_onWayTo_17 ?_
    refine v_callV (pc := 18) (b := am) hO cp_X4 hr.ob (m_ofOrder hr i 0 (by omega) (by omega)) (lw_V q2245 q2247 qs38 q117 q2248) yo_X4_ofOrder rfl rfl rfl (by decide) (by decide) (k2 := 0) (n2 := 0) (by decide) (by decide) (by decide) (by decide) dX4_onWayTo_18 (fun va hv hp hf1 => ?_)
    obtain ⟨rfl, rfl⟩ := hp
    refine v_iload_n (pc := 21) hO dX4_onWayTo_21 rfl ?_
    refine v_icmp_ne (pc := 22) (tgt := 38) hO dX4_onWayTo_22 (by decide) (by first | assumption | exact hr.zA 0 _ | exact hr.zA 8 _ | exact hr.zA 9 _ | exact hr.zS _ | exact hMz _ | exact hMz1 _ | exact zw_R _ | (unfold zR; omega)) (by first | assumption | exact hr.zA 0 _ | exact hr.zA 8 _ | exact hr.zA 9 _ | exact hr.zS _ | exact hMz _ | exact hMz1 _ | exact zw_R _ | (unfold zR; omega)) (fun c22 => ?_) (fun c22 => ?_)
    · refine v_iconst (pc := 38) hO dX4_onWayTo_38 ?_
      refine v_iadd (pc := 39) hO dX4_onWayTo_39 ?_
      refine v_istore_n (pc := 40) hO (lv' := [(2, .inl (q + 0)), (0, sref am), (1, .inl u), (3, .inl i)]) dX4_onWayTo_40 (by decide) rfl ?_
      refine v_iinc (pc := 41) hO (lv' := [(3, .inl (i + 1)), (2, .inl (q + 0)), (0, sref am), (1, .inl u)]) dX4_onWayTo_41 rfl (by decide) rfl ?_
      refine v_goto (pc := 44) (tgt := 4) hO dX4_onWayTo_44 (by decide) ?_
      refine v_pick (lv2 := [(0, sref am), (1, .inl u), (2, .inl ((q + 0))), (3, .inl ((i + 1)))]) [2, 3, 1, 0] rfl ?_
      exact ih (i + 1, q + 0) ⟨(by omega), (by omega), (by omega), (by omega), (by have e9 := cntI_n (p := onwP M u) (by omega) (fun e => absurd (of_decide_eq_true e) (by first | omega | (intro e2; first | exact absurd e2.1 (by assumption) | exact absurd e2.2 (by assumption)))); omega)⟩ (by show (M 4 - (i + 1)).toNat < (M 4 - i).toNat; omega)
    · refine v_aload_n (pc := 25) hO dX4_onWayTo_25 rfl ?_
      refine v_iload_n (pc := 26) hO dX4_onWayTo_26 rfl ?_
      refine v_iconst (pc := 27) hO dX4_onWayTo_27 ?_
      refine v_callV (pc := 28) (b := am) hO cp_X4 hr.ob (m_ofOrder hr i 3 (by omega) (by omega)) (lw_V q2245 q2247 qs38 q117 q2248) yo_X4_ofOrder rfl rfl rfl (by decide) (by decide) (k2 := 0) (n2 := 0) (by decide) (by decide) (by decide) (by decide) dX4_onWayTo_28 (fun va hv hp hf1 => ?_)
      obtain ⟨rfl, rfl⟩ := hp
      refine v_if_ne (pc := 31) (tgt := 38) hO dX4_onWayTo_31 (by decide) (by first | assumption | exact hr.zA 0 _ | exact hr.zA 8 _ | exact hr.zA 9 _ | exact hr.zS _ | exact hMz _ | exact hMz1 _ | exact zw_R _ | (unfold zR; omega)) (fun c31 => ?_) (fun c31 => ?_)
      · refine v_iconst (pc := 38) hO dX4_onWayTo_38 ?_
        refine v_iadd (pc := 39) hO dX4_onWayTo_39 ?_
        refine v_istore_n (pc := 40) hO (lv' := [(2, .inl (q + 0)), (0, sref am), (1, .inl u), (3, .inl i)]) dX4_onWayTo_40 (by decide) rfl ?_
        refine v_iinc (pc := 41) hO (lv' := [(3, .inl (i + 1)), (2, .inl (q + 0)), (0, sref am), (1, .inl u)]) dX4_onWayTo_41 rfl (by decide) rfl ?_
        refine v_goto (pc := 44) (tgt := 4) hO dX4_onWayTo_44 (by decide) ?_
        refine v_pick (lv2 := [(0, sref am), (1, .inl u), (2, .inl ((q + 0))), (3, .inl ((i + 1)))]) [2, 3, 1, 0] rfl ?_
        exact ih (i + 1, q + 0) ⟨(by omega), (by omega), (by omega), (by omega), (by have e9 := cntI_n (p := onwP M u) (by omega) (fun e => absurd (of_decide_eq_true e) (by first | omega | (intro e2; first | exact absurd e2.1 (by assumption) | exact absurd e2.2 (by assumption)))); omega)⟩ (by show (M 4 - (i + 1)).toNat < (M 4 - i).toNat; omega)
      · refine v_iconst (pc := 34) hO dX4_onWayTo_34 ?_
        refine v_goto (pc := 35) (tgt := 39) hO dX4_onWayTo_35 (by decide) ?_
        refine v_iadd (pc := 39) hO dX4_onWayTo_39 ?_
        refine v_istore_n (pc := 40) hO (lv' := [(2, .inl (q + 1)), (0, sref am), (1, .inl u), (3, .inl i)]) dX4_onWayTo_40 (by decide) rfl ?_
        refine v_iinc (pc := 41) hO (lv' := [(3, .inl (i + 1)), (2, .inl (q + 1)), (0, sref am), (1, .inl u)]) dX4_onWayTo_41 rfl (by decide) rfl ?_
        refine v_goto (pc := 44) (tgt := 4) hO dX4_onWayTo_44 (by decide) ?_
        refine v_pick (lv2 := [(0, sref am), (1, .inl u), (2, .inl ((q + 1))), (3, .inl ((i + 1)))]) [2, 3, 1, 0] rfl ?_
        exact ih (i + 1, q + 1) ⟨(by omega), (by omega), (by omega), (by omega), (by have e9 := cntI_y (p := onwP M u) (by omega) (decide_eq_true (by first | omega | exact ⟨by assumption, by assumption⟩)); omega)⟩ (by show (M 4 - (i + 1)).toNat < (M 4 - i).toNat; omega)
theorem yo_X4_ordersIn : yOK yX4_ordersIn 1 := by unfold yOK; exact ⟨by decide +kernel, by decide +kernel, by decide +kernel⟩
set_option maxRecDepth 100000 in
theorem m_ordersIn {G : GT} {h : AH} {am : Nat} {ad : Nat → Nat} {nmf : Int → Option Nat} {S : Nat → Int} {Ar : Nat → Int → Int} {M : Int → Int} (hr : RefAt G h am ad nmf S (rA Ar 0 M)) {A : Nat → Prop} (t : Int) (hu : zR t) (hn : inb (M 4) 0 40) : CC G yX4_ordersIn cX4_ordersIn 4 (some .int) ({ frames := 3, cells := 0, slots := 0, locals := 55 } : Room) A [sref am, .inl t] h (fun v h1 => v = some (.inl (stcM M t)) ∧ h = h1) := by
  refine CC.of (by decide +kernel) [(0, sref am), (1, .inl t)] rfl (Nat.le_of_ble_eq_true rfl) (fun X hnm hO => ?_)
  refine v_iconst (pc := 0) hO dX4_ordersIn_0 ?_
  refine v_istore_n (pc := 1) hO (lv' := [(2, .inl 0), (0, sref am), (1, .inl t)]) dX4_ordersIn_1 (by decide) rfl ?_
  refine v_iconst (pc := 2) hO dX4_ordersIn_2 ?_
  refine v_istore_n (pc := 3) hO (lv' := [(3, .inl 0), (2, .inl 0), (0, sref am), (1, .inl t)]) dX4_ordersIn_3 (by decide) rfl ?_
  refine v_pick (lv2 := [(0, sref am), (1, .inl t), (2, .inl 0), (3, .inl 0)]) [2, 3, 1, 0] rfl ?_
  refine v_loop (σ := Int × Int) (fun (i, q) => 0 ≤ i ∧ i ≤ M 4 ∧ 0 ≤ q ∧ q ≤ i ∧ stcM M t = q + cntI (staP M t) (M 4 - i).toNat i) (fun (i, q) => (M 4 - i).toNat) (fun (i, q) => h) (fun (i, q) => [(0, sref am), (1, .inl t), (2, .inl q), (3, .inl i)]) (0, 0) ⟨Int.le_refl _, (by omega), Int.le_refl _, Int.le_refl _, (by unfold stcM; omega)⟩ ?_
  rintro ⟨i, q⟩ ⟨hi0, hi1, hq0, hq1, hg⟩ ih
  show VV X G A _ _ _ h _ _ 4 [(0, sref am), (1, .inl t), (2, .inl q), (3, .inl i)] []
  refine v_iload_n (pc := 4) hO dX4_ordersIn_4 rfl ?_
  refine v_aload_n (pc := 5) hO dX4_ordersIn_5 rfl ?_
  refine v_getf (pc := 6) (v := sref (ad 0)) hO cp_X4 0 q2125 hr.ob (by decide) rfl dX4_ordersIn_6 ?_
  refine v_iconst (pc := 9) hO dX4_ordersIn_9 ?_
  refine r_iald (pc := 10) (w := M 4) (L := 3934) hO hr 0 ri_0 rfl rfl (by omega) (by omega) dX4_ordersIn_10 ?_
  refine v_icmp_ge (pc := 11) (tgt := 38) hO dX4_ordersIn_11 (by decide) (by first | assumption | exact hr.zA 0 _ | exact hr.zA 8 _ | exact hr.zA 9 _ | exact hr.zS _ | exact hMz _ | exact hMz1 _ | exact zw_R _ | (unfold zR; omega)) (by first | assumption | exact hr.zA 0 _ | exact hr.zA 8 _ | exact hr.zA 9 _ | exact hr.zS _ | exact hMz _ | exact hMz1 _ | exact zw_R _ | (unfold zR; omega)) (fun c11 => ?_) (fun c11 => ?_)
  · refine v_iload_n (pc := 38) hO dX4_ordersIn_38 rfl ?_
    exact v_iret hO dX4_ordersIn_39 rfl (Nat.le_of_ble_eq_true rfl) (Nat.le_of_ble_eq_true rfl) ⟨congrArg (fun z => some (Sum.inl z)) (by have e9 := cntI_e (p := staP M t) (show M 4 ≤ i by omega); omega), rfl⟩
  · refine v_iload_n (pc := 14) hO dX4_ordersIn_14 rfl ?_
    refine v_aload_n (pc := 15) hO dX4_ordersIn_15 rfl ?_
    refine v_iload_n (pc := 16) hO dX4_ordersIn_16 rfl ?_
    refine v_iconst (pc := 17) hO dX4_ordersIn_17 ?_
    refine v_callV (pc := 18) (b := am) hO cp_X4 hr.ob (m_ofOrder hr i 3 (by omega) (by omega)) (lw_V q2245 q2247 qs38 q117 q2248) yo_X4_ofOrder rfl rfl rfl (by decide) (by decide) (k2 := 0) (n2 := 0) (by decide) (by decide) (by decide) (by decide) dX4_ordersIn_18 (fun va hv hp hf1 => ?_)
    obtain ⟨rfl, rfl⟩ := hp
    refine v_iload_n (pc := 21) hO dX4_ordersIn_21 rfl ?_
    refine v_icmp_ne (pc := 22) (tgt := 29) hO dX4_ordersIn_22 (by decide) (by first | assumption | exact hr.zA 0 _ | exact hr.zA 8 _ | exact hr.zA 9 _ | exact hr.zS _ | exact hMz _ | exact hMz1 _ | exact zw_R _ | (unfold zR; omega)) (by first | assumption | exact hr.zA 0 _ | exact hr.zA 8 _ | exact hr.zA 9 _ | exact hr.zS _ | exact hMz _ | exact hMz1 _ | exact zw_R _ | (unfold zR; omega)) (fun c22 => ?_) (fun c22 => ?_)
    · refine v_iconst (pc := 29) hO dX4_ordersIn_29 ?_
      refine v_iadd (pc := 30) hO dX4_ordersIn_30 ?_
      refine v_istore_n (pc := 31) hO (lv' := [(2, .inl (q + 0)), (0, sref am), (1, .inl t), (3, .inl i)]) dX4_ordersIn_31 (by decide) rfl ?_
      refine v_iinc (pc := 32) hO (lv' := [(3, .inl (i + 1)), (2, .inl (q + 0)), (0, sref am), (1, .inl t)]) dX4_ordersIn_32 rfl (by decide) rfl ?_
      refine v_goto (pc := 35) (tgt := 4) hO dX4_ordersIn_35 (by decide) ?_
      refine v_pick (lv2 := [(0, sref am), (1, .inl t), (2, .inl ((q + 0))), (3, .inl ((i + 1)))]) [2, 3, 1, 0] rfl ?_
      exact ih (i + 1, q + 0) ⟨(by omega), (by omega), (by omega), (by omega), (by have e9 := cntI_n (p := staP M t) (by omega) (fun e => absurd (of_decide_eq_true e) (by first | omega | (intro e2; first | exact absurd e2.1 (by assumption) | exact absurd e2.2 (by assumption)))); omega)⟩ (by show (M 4 - (i + 1)).toNat < (M 4 - i).toNat; omega)
    · refine v_iconst (pc := 25) hO dX4_ordersIn_25 ?_
      refine v_goto (pc := 26) (tgt := 30) hO dX4_ordersIn_26 (by decide) ?_
      refine v_iadd (pc := 30) hO dX4_ordersIn_30 ?_
      refine v_istore_n (pc := 31) hO (lv' := [(2, .inl (q + 1)), (0, sref am), (1, .inl t), (3, .inl i)]) dX4_ordersIn_31 (by decide) rfl ?_
      refine v_iinc (pc := 32) hO (lv' := [(3, .inl (i + 1)), (2, .inl (q + 1)), (0, sref am), (1, .inl t)]) dX4_ordersIn_32 rfl (by decide) rfl ?_
      refine v_goto (pc := 35) (tgt := 4) hO dX4_ordersIn_35 (by decide) ?_
      refine v_pick (lv2 := [(0, sref am), (1, .inl t), (2, .inl ((q + 1))), (3, .inl ((i + 1)))]) [2, 3, 1, 0] rfl ?_
      exact ih (i + 1, q + 1) ⟨(by omega), (by omega), (by omega), (by omega), (by have e9 := cntI_y (p := staP M t) (by omega) (decide_eq_true (by first | omega | exact ⟨by assumption, by assumption⟩)); omega)⟩ (by show (M 4 - (i + 1)).toNat < (M 4 - i).toNat; omega)
theorem yo_X4_stepFrom : yOK yX4_stepFrom 2 := by unfold yOK; exact ⟨by decide +kernel, by decide +kernel, by decide +kernel⟩
set_option maxRecDepth 100000 in
theorem m_stepFrom {G : GT} {h : AH} {am : Nat} {ad : Nat → Nat} {nmf : Int → Option Nat} {S : Nat → Int} {Ar : Nat → Int → Int} {M : Int → Int} (hr : RefAt G h am ad nmf S (rA Ar 0 M)) {A : Nat → Prop} (x y : Int) (hx : inb x 0 11) (hy : inb y 0 11) (hd : dimM M) : CC G yX4_stepFrom cX4_stepFrom 6 (some .int) ({ frames := 4, cells := 0, slots := 0, locals := 78 } : Room) A [sref am, .inl x, .inl y] h (fun v h1 => v = some (.inl (stpM M (Ar 8) x y)) ∧ h = h1) := by
  refine CC.of (by decide +kernel) [(0, sref am), (1, .inl x), (2, .inl y)] rfl (Nat.le_of_ble_eq_true rfl) (fun X hnm hO => ?_)
  refine v_iconst (pc := 0) hO dX4_stepFrom_0 ?_
  refine v_istore_n (pc := 1) hO (lv' := [(3, .inl 0), (0, sref am), (1, .inl x), (2, .inl y)]) dX4_stepFrom_1 (by decide) rfl ?_
  refine v_pick (lv2 := [(0, sref am), (1, .inl x), (2, .inl y), (3, .inl 0)]) [1, 2, 3, 0] rfl ?_
  refine v_loop (σ := Int) (fun (i : Int) => 0 ≤ i ∧ i ≤ 4 ∧ stpM M (Ar 8) x y = fstI (stpP M (Ar 8) x y) (4 - i).toNat i) (fun (i : Int) => (4 - i).toNat) (fun (i : Int) => h) (fun (i : Int) => [(0, sref am), (1, .inl x), (2, .inl y), (3, .inl i)]) (0) ⟨Int.le_refl _, (by omega), rfl⟩ ?_
  rintro i ⟨hi0, hi1, hg⟩ ih
  show VV X G A _ _ _ h _ _ 2 [(0, sref am), (1, .inl x), (2, .inl y), (3, .inl i)] []
  refine v_iload_n (pc := 2) hO dX4_stepFrom_2 rfl ?_
  refine v_iconst (pc := 3) hO dX4_stepFrom_3 ?_
  refine v_icmp_ge (pc := 4) (tgt := 71) hO dX4_stepFrom_4 (by decide) (by first | assumption | exact hr.zA 0 _ | exact hr.zA 8 _ | exact hr.zA 9 _ | exact hr.zS _ | exact hMz _ | exact hMz1 _ | exact zw_R _ | (unfold zR; omega)) (by first | assumption | exact hr.zA 0 _ | exact hr.zA 8 _ | exact hr.zA 9 _ | exact hr.zS _ | exact hMz _ | exact hMz1 _ | exact zw_R _ | (unfold zR; omega)) (fun c4 => ?_) (fun c4 => ?_)
  · refine v_iconst (pc := 71) hO dX4_stepFrom_71 ?_
    exact v_iret hO dX4_stepFrom_72 rfl (Nat.le_of_ble_eq_true rfl) (Nat.le_of_ble_eq_true rfl) ⟨congrArg (fun z => some (Sum.inl z)) (hg.trans (fstI_e (by omega))).symm, rfl⟩
  · have e1 := dX_R i; have e2 := dY_R i
    refine v_iload_n (pc := 7) hO dX4_stepFrom_7 rfl ?_
    refine v_iload_n (pc := 8) hO dX4_stepFrom_8 rfl ?_
    refine v_iconst (pc := 9) hO dX4_stepFrom_9 ?_
    refine v_callS (pc := 10) hO (m_besideX i (by first | assumption | exact hr.zA 0 _ | exact hr.zA 8 _ | exact hr.zA 9 _ | exact hr.zS _ | exact hMz _ | exact hMz1 _ | (unfold zR; omega))) (lw_S q2350 q2351 q117 q2352) yo_X4_beside rfl rfl (by decide) (by decide) (k2 := 0) (n2 := 0) (by decide) (by decide) (by decide) (by decide) dX4_stepFrom_10 (fun va hv hp hf1 => ?_)
    obtain ⟨rfl, rfl⟩ := hp
    refine v_iadd (pc := 13) hO dX4_stepFrom_13 ?_
    refine v_istore (pc := 14) hO (lv' := [(4, .inl (x + (dX i))), (0, sref am), (1, .inl x), (2, .inl y), (3, .inl i)]) dX4_stepFrom_14 (by decide) rfl ?_
    refine v_iload_n (pc := 16) hO dX4_stepFrom_16 rfl ?_
    refine v_iload_n (pc := 17) hO dX4_stepFrom_17 rfl ?_
    refine v_iconst (pc := 18) hO dX4_stepFrom_18 ?_
    refine v_callS (pc := 19) hO (m_besideY i (by first | assumption | exact hr.zA 0 _ | exact hr.zA 8 _ | exact hr.zA 9 _ | exact hr.zS _ | exact hMz _ | exact hMz1 _ | (unfold zR; omega))) (lw_S q2350 q2351 q117 q2352) yo_X4_beside rfl rfl (by decide) (by decide) (k2 := 0) (n2 := 0) (by decide) (by decide) (by decide) (by decide) dX4_stepFrom_19 (fun va hv hp hf1 => ?_)
    obtain ⟨rfl, rfl⟩ := hp
    refine v_iadd (pc := 22) hO dX4_stepFrom_22 ?_
    refine v_istore (pc := 23) hO (lv' := [(5, .inl (y + (dY i))), (4, .inl (x + (dX i))), (0, sref am), (1, .inl x), (2, .inl y), (3, .inl i)]) dX4_stepFrom_23 (by decide) rfl ?_
    refine v_aload_n (pc := 25) hO dX4_stepFrom_25 rfl ?_
    refine v_iload (pc := 26) hO dX4_stepFrom_26 rfl ?_
    refine v_iload (pc := 28) hO dX4_stepFrom_28 rfl ?_
    refine v_callV (pc := 30) (b := am) hO cp_X4 hr.ob (m_isFree hr (x + (dX i)) (y + (dY i)) (by first | assumption | exact hr.zA 0 _ | exact hr.zA 8 _ | exact hr.zA 9 _ | exact hr.zS _ | exact hMz _ | exact hMz1 _ | (unfold zR; omega)) (by first | assumption | exact hr.zA 0 _ | exact hr.zA 8 _ | exact hr.zA 9 _ | exact hr.zS _ | exact hMz _ | exact hMz1 _ | (unfold zR; omega)) hd) (lw_V q2318 q2320 qs48 q117 q2321) yo_X4_isFree rfl rfl rfl (by decide) (by decide) (k2 := 0) (n2 := 0) (by decide) (by decide) (by decide) (by decide) dX4_stepFrom_30 (fun va hv hp hf1 => ?_)
    obtain ⟨rfl, rfl⟩ := hp
    refine v_ifb_eq (pc := 33) (tgt := 65) hO dX4_stepFrom_33 (by decide) (fun c33 => ?_) (fun c33 => ?_)
    · refine v_iinc (pc := 65) hO (lv' := [(3, .inl (i + 1)), (5, .inl (y + (dY i))), (4, .inl (x + (dX i))), (0, sref am), (1, .inl x), (2, .inl y)]) dX4_stepFrom_65 rfl (by decide) rfl ?_
      refine v_goto (pc := 68) (tgt := 2) hO dX4_stepFrom_68 (by decide) ?_
      refine v_pick (lv2 := [(0, sref am), (1, .inl x), (2, .inl y), (3, .inl ((i + 1)))]) [3, 4, 5, 0] rfl ?_
      exact ih (i + 1) ⟨(by omega), (by omega), (hg.trans (fstI_n (by omega) (fun e => absurd (of_decide_eq_true e) (by first | omega | (intro e2; first | exact absurd e2.1 (by assumption) | exact absurd e2.2 (by assumption))))))⟩ (by show (4 - (i + 1)).toNat < (4 - i).toNat; omega)
    · refine v_aload_n (pc := 36) hO dX4_stepFrom_36 rfl ?_
      refine v_getf (pc := 37) (v := sref (ad 8)) hO cp_X4 8 q2133 hr.ob (by decide) rfl dX4_stepFrom_37 ?_
      refine v_bipush (pc := 40) hO dX4_stepFrom_40 (by decide +kernel) ?_
      refine v_iload (pc := 42) hO dX4_stepFrom_42 rfl ?_
      refine v_imul (pc := 44) hO dX4_stepFrom_44 ?_
      refine v_iload (pc := 45) hO dX4_stepFrom_45 rfl ?_
      refine v_iadd (pc := 47) hO dX4_stepFrom_47 ?_
      refine r_iald (pc := 48) (w := Ar 8 (12 * (y + (dY i)) + (x + (dX i)))) (L := 144) hO hr 8 ri_8 rfl rfl (by omega) (by omega) dX4_stepFrom_48 ?_
      refine v_aload_n (pc := 49) hO dX4_stepFrom_49 rfl ?_
      refine v_getf (pc := 50) (v := sref (ad 8)) hO cp_X4 8 q2133 hr.ob (by decide) rfl dX4_stepFrom_50 ?_
      refine v_bipush (pc := 53) hO dX4_stepFrom_53 (by decide +kernel) ?_
      refine v_iload_n (pc := 55) hO dX4_stepFrom_55 rfl ?_
      refine v_imul (pc := 56) hO dX4_stepFrom_56 ?_
      refine v_iload_n (pc := 57) hO dX4_stepFrom_57 rfl ?_
      refine v_iadd (pc := 58) hO dX4_stepFrom_58 ?_
      refine r_iald (pc := 59) (w := Ar 8 (12 * y + x)) (L := 144) hO hr 8 ri_8 rfl rfl (by omega) (by omega) dX4_stepFrom_59 ?_
      refine v_icmp_ge (pc := 60) (tgt := 65) hO dX4_stepFrom_60 (by decide) (by first | assumption | exact hr.zA 0 _ | exact hr.zA 8 _ | exact hr.zA 9 _ | exact hr.zS _ | exact hMz _ | exact hMz1 _ | exact zw_R _ | (unfold zR; omega)) (by first | assumption | exact hr.zA 0 _ | exact hr.zA 8 _ | exact hr.zA 9 _ | exact hr.zS _ | exact hMz _ | exact hMz1 _ | exact zw_R _ | (unfold zR; omega)) (fun c60 => ?_) (fun c60 => ?_)
      · refine v_iinc (pc := 65) hO (lv' := [(3, .inl (i + 1)), (5, .inl (y + (dY i))), (4, .inl (x + (dX i))), (0, sref am), (1, .inl x), (2, .inl y)]) dX4_stepFrom_65 rfl (by decide) rfl ?_
        refine v_goto (pc := 68) (tgt := 2) hO dX4_stepFrom_68 (by decide) ?_
        refine v_pick (lv2 := [(0, sref am), (1, .inl x), (2, .inl y), (3, .inl ((i + 1)))]) [3, 4, 5, 0] rfl ?_
        exact ih (i + 1) ⟨(by omega), (by omega), (hg.trans (fstI_n (by omega) (fun e => absurd (of_decide_eq_true e) (by first | omega | (intro e2; first | exact absurd e2.1 (by assumption) | exact absurd e2.2 (by assumption))))))⟩ (by show (4 - (i + 1)).toNat < (4 - i).toNat; omega)
      · refine v_iload_n (pc := 63) hO dX4_stepFrom_63 rfl ?_
        exact v_iret hO dX4_stepFrom_64 rfl (Nat.le_of_ble_eq_true rfl) (Nat.le_of_ble_eq_true rfl) ⟨congrArg (fun z => some (Sum.inl z)) (hg.trans (fstI_y (by omega) (decide_eq_true (by first | omega | exact ⟨by assumption, by assumption⟩)))).symm, rfl⟩
theorem yo_X4_spread : yOK yX4_spread 2 := by unfold yOK; exact ⟨by decide +kernel, by decide +kernel, by decide +kernel⟩
set_option maxRecDepth 100000 in
theorem m_spread {G : GT} {h : AH} {am : Nat} {ad : Nat → Nat} {nmf : Int → Option Nat} {S : Nat → Int} {Ar : Nat → Int → Int} {M F Qu : Int → Int} (hr : RefAt G h am ad nmf S (rA (rA (rA Ar 9 Qu) 8 F) 0 M)) {A : Nat → Prop} (hA : ∀ q, RA am ad q → A q) (c n0 : Int) (h0 : 0 ≤ c) (h1 : c < 144) (hd : dimM M) (hb : BW (F, Qu, n0)) (hc : 0 ≤ F c) (hc2 : F c + 1 ≤ n0) : CC G yX4_spread cX4_spread 7 (some .int) ({ frames := 4, cells := 0, slots := 0, locals := 78 } : Room) A [sref am, .inl c, .inl n0] h (fun v h1 => v = some (.inl (sprM M c (F, Qu, n0)).2.2) ∧ RefAt G h1 am ad nmf S (rA (rA (rA Ar 9 (sprM M c (F, Qu, n0)).2.1) 8 (sprM M c (F, Qu, n0)).1) 0 M)) := by
  refine CC.of (by decide +kernel) [(0, sref am), (1, .inl c), (2, .inl n0)] rfl (Nat.le_of_ble_eq_true rfl) (fun X hnm hO => ?_)
  have hMz : ∀ z, zR (M z) := fun z => hr.zA 0 z
  refine v_iload_n (pc := 0) hO dX4_spread_0 rfl ?_
  refine v_istore_n (pc := 1) hO (lv' := [(3, .inl n0), (0, sref am), (1, .inl c), (2, .inl n0)]) dX4_spread_1 (by decide) rfl ?_
  refine v_iconst (pc := 2) hO dX4_spread_2 ?_
  refine v_istore (pc := 3) hO (lv' := [(4, .inl 0), (3, .inl n0), (0, sref am), (1, .inl c), (2, .inl n0)]) dX4_spread_3 (by decide) rfl ?_
  refine v_pick (lv2 := [(0, sref am), (1, .inl c), (2, .inl n0), (3, .inl n0), (4, .inl 0)]) [2, 3, 4, 1, 0] rfl ?_
  refine v_loop (σ := Int × (Int → Int) × (Int → Int) × Int × AH) (fun (d, F1, Qu1, n1, hL) => 0 ≤ d ∧ d ≤ 4 ∧ RefAt G hL am ad nmf S (rA (rA (rA Ar 9 Qu1) 8 F1) 0 M) ∧ BW (F1, Qu1, n1) ∧ 0 ≤ F1 c ∧ F1 c + 1 ≤ n1 ∧ sprM M c (F, Qu, n0) = itI (sprD M c) ((4 : Int) - d).toNat d (F1, Qu1, n1)) (fun (d, F1, Qu1, n1, hL) => ((4 : Int) - d).toNat) (fun (d, F1, Qu1, n1, hL) => hL) (fun (d, F1, Qu1, n1, hL) => [(0, sref am), (1, .inl c), (2, .inl n0), (3, .inl n1), (4, .inl d)]) (0, F, Qu, n0, h) ⟨Int.le_refl _, (by decide), hr, hb, hc, hc2, rfl⟩ ?_
  rintro ⟨d, F1, Qu1, n1, hL⟩ ⟨hd0, hd1, hr, hb, hc, hc2, hg⟩ ih
  show VV X G A _ _ _ hL _ _ 5 [(0, sref am), (1, .inl c), (2, .inl n0), (3, .inl n1), (4, .inl d)] []
  refine v_iload (pc := 5) hO dX4_spread_5 rfl ?_
  refine v_iconst (pc := 7) hO dX4_spread_7 ?_
  refine v_icmp_ge (pc := 8) (tgt := 111) hO dX4_spread_8 (by decide) (by first | assumption | exact hr.zA 0 _ | exact hr.zA 8 _ | exact hr.zA 9 _ | exact hr.zS _ | exact hMz _ | exact hMz1 _ | exact zw_R _ | (unfold zR; omega)) (by first | assumption | exact hr.zA 0 _ | exact hr.zA 8 _ | exact hr.zA 9 _ | exact hr.zS _ | exact hMz _ | exact hMz1 _ | exact zw_R _ | (unfold zR; omega)) (fun c8 => ?_) (fun c8 => ?_)
  · refine v_iload_n (pc := 111) hO dX4_spread_111 rfl ?_
    exact v_iret hO dX4_spread_112 rfl (Nat.le_of_ble_eq_true rfl) (Nat.le_of_ble_eq_true rfl) (by have e9 := hg.trans (itI_e (f := sprD M c) (a := (F1, Qu1, n1)) (show (4 : Int) ≤ d by omega)); show _ = _ ∧ RefAt _ _ _ _ _ _ _; rw [e9]; exact ⟨rfl, hr⟩)
  · have e1 := dX_R d; have e2 := dY_R d; have hbn := BW.n hb; have hb0 := hb.1
    refine v_iload_n (pc := 11) hO dX4_spread_11 rfl ?_
    refine v_bipush (pc := 12) hO dX4_spread_12 (by decide +kernel) ?_
    refine v_irem (pc := 14) hO dX4_spread_14 (by omega) (by first | assumption | exact hr.zA 0 _ | exact hr.zA 8 _ | exact hr.zA 9 _ | exact hr.zS _ | exact hMz _ | exact hMz1 _ | exact zw_R _ | (unfold zR; omega)) (by omega) (by first | assumption | exact hr.zA 0 _ | exact hr.zA 8 _ | exact hr.zA 9 _ | exact hr.zS _ | exact hMz _ | exact hMz1 _ | exact zw_R _ | (unfold zR; omega)) ?_
    refine v_iload (pc := 15) hO dX4_spread_15 rfl ?_
    refine v_iconst (pc := 17) hO dX4_spread_17 ?_
    refine v_callS (pc := 18) hO (m_besideX d (by first | assumption | exact hr.zA 0 _ | exact hr.zA 8 _ | exact hr.zA 9 _ | exact hr.zS _ | exact hMz _ | exact hMz1 _ | (unfold zR; omega))) (lw_S q2350 q2351 q117 q2352) yo_X4_beside rfl rfl (by decide) (by decide) (k2 := 0) (n2 := 0) (by decide) (by decide) (by decide) (by decide) dX4_spread_18 (fun va hv hp hf1 => ?_)
    obtain ⟨rfl, rfl⟩ := hp
    refine v_iadd (pc := 21) hO dX4_spread_21 ?_
    refine v_istore (pc := 22) hO (lv' := [(5, .inl (c % 12 + (dX d))), (0, sref am), (1, .inl c), (2, .inl n0), (3, .inl n1), (4, .inl d)]) dX4_spread_22 (by decide) rfl ?_
    refine v_iload_n (pc := 24) hO dX4_spread_24 rfl ?_
    refine v_bipush (pc := 25) hO dX4_spread_25 (by decide +kernel) ?_
    refine v_idiv (pc := 27) hO dX4_spread_27 (by omega) (by first | assumption | exact hr.zA 0 _ | exact hr.zA 8 _ | exact hr.zA 9 _ | exact hr.zS _ | exact hMz _ | exact hMz1 _ | exact zw_R _ | (unfold zR; omega)) (by omega) (by first | assumption | exact hr.zA 0 _ | exact hr.zA 8 _ | exact hr.zA 9 _ | exact hr.zS _ | exact hMz _ | exact hMz1 _ | exact zw_R _ | (unfold zR; omega)) ?_
    refine v_iload (pc := 28) hO dX4_spread_28 rfl ?_
    refine v_iconst (pc := 30) hO dX4_spread_30 ?_
    refine v_callS (pc := 31) hO (m_besideY d (by first | assumption | exact hr.zA 0 _ | exact hr.zA 8 _ | exact hr.zA 9 _ | exact hr.zS _ | exact hMz _ | exact hMz1 _ | (unfold zR; omega))) (lw_S q2350 q2351 q117 q2352) yo_X4_beside rfl rfl (by decide) (by decide) (k2 := 0) (n2 := 0) (by decide) (by decide) (by decide) (by decide) dX4_spread_31 (fun va hv hp hf1 => ?_)
    obtain ⟨rfl, rfl⟩ := hp
    refine v_iadd (pc := 34) hO dX4_spread_34 ?_
    refine v_istore (pc := 35) hO (lv' := [(6, .inl (c / 12 + (dY d))), (5, .inl (c % 12 + (dX d))), (0, sref am), (1, .inl c), (2, .inl n0), (3, .inl n1), (4, .inl d)]) dX4_spread_35 (by decide) rfl ?_
    refine v_aload_n (pc := 37) hO dX4_spread_37 rfl ?_
    refine v_iload (pc := 38) hO dX4_spread_38 rfl ?_
    refine v_iload (pc := 40) hO dX4_spread_40 rfl ?_
    refine v_callV (pc := 42) (b := am) hO cp_X4 hr.ob (m_isFree hr (c % 12 + (dX d)) (c / 12 + (dY d)) (by first | assumption | exact hr.zA 0 _ | exact hr.zA 8 _ | exact hr.zA 9 _ | exact hr.zS _ | exact hMz _ | exact hMz1 _ | (unfold zR; omega)) (by first | assumption | exact hr.zA 0 _ | exact hr.zA 8 _ | exact hr.zA 9 _ | exact hr.zS _ | exact hMz _ | exact hMz1 _ | (unfold zR; omega)) hd) (lw_V q2318 q2320 qs48 q117 q2321) yo_X4_isFree rfl rfl rfl (by decide) (by decide) (k2 := 0) (n2 := 0) (by decide) (by decide) (by decide) (by decide) dX4_spread_42 (fun va hv hp hf1 => ?_)
    obtain ⟨rfl, rfl⟩ := hp
    have hlt := fun (e : freM M (c % 12 + dX d) (c / 12 + dY d)) (e3 : F1 (nbI c d) = 1000) => BW.lt hb (nb_in hd h0 h1 e).1 (nb_in hd h0 h1 e).2 e3; have hb4 := hb.2.2.2 c h0 h1
    refine v_ifb_eq (pc := 45) (tgt := 105) hO dX4_spread_45 (by decide) (fun c45 => ?_) (fun c45 => ?_)
    · refine v_iinc (pc := 105) hO (lv' := [(4, .inl (d + 1)), (6, .inl (c / 12 + (dY d))), (5, .inl (c % 12 + (dX d))), (0, sref am), (1, .inl c), (2, .inl n0), (3, .inl n1)]) dX4_spread_105 rfl (by decide) rfl ?_
      refine v_goto (pc := 108) (tgt := 5) hO dX4_spread_108 (by decide) ?_
      refine v_pick (lv2 := [(0, sref am), (1, .inl c), (2, .inl n0), (3, .inl n1), (4, .inl ((d + 1)))]) [3, 4, 5, 6, 0] rfl ?_
      exact ih (d + 1, F1, Qu1, n1, _) ⟨(by omega), (by omega), hr, (by have q9 := (BW_D (d := d) hd hb h0 h1 hc hc2).1; rw [(show sprD M c d (F1, Qu1, n1) = (F1, Qu1, n1) from if_neg (by intro e2; first | exact absurd e2.1 (by assumption) | exact absurd e2.2 (by assumption)))] at q9; exact q9), (by have q9 := (BW_D (d := d) hd hb h0 h1 hc hc2).2.1; rw [(show sprD M c d (F1, Qu1, n1) = (F1, Qu1, n1) from if_neg (by intro e2; first | exact absurd e2.1 (by assumption) | exact absurd e2.2 (by assumption)))] at q9; have q8 : (F1) c = F1 c := q9; show 0 ≤ (F1) c; omega), (by have q9 := (BW_D (d := d) hd hb h0 h1 hc hc2); rw [(show sprD M c d (F1, Qu1, n1) = (F1, Qu1, n1) from if_neg (by intro e2; first | exact absurd e2.1 (by assumption) | exact absurd e2.2 (by assumption)))] at q9; have q8 := q9.2.1; have q7 := q9.2.2.1; have q6 : n1 ≤ n1 := q7; have q5 : (F1) c = F1 c := q8; show (F1) c + 1 ≤ n1; omega), (hg.trans ((itI_s (by omega)).trans (by rw [(show sprD M c d (F1, Qu1, n1) = (F1, Qu1, n1) from if_neg (by intro e2; first | exact absurd e2.1 (by assumption) | exact absurd e2.2 (by assumption)))])))⟩ (by show ((4 : Int) - (d + 1)).toNat < ((4 : Int) - d).toNat; omega)
    · refine v_aload_n (pc := 48) hO dX4_spread_48 rfl ?_
      refine v_getf (pc := 49) (v := sref (ad 8)) hO cp_X4 8 q2133 hr.ob (by decide) rfl dX4_spread_49 ?_
      refine v_bipush (pc := 52) hO dX4_spread_52 (by decide +kernel) ?_
      refine v_iload (pc := 54) hO dX4_spread_54 rfl ?_
      refine v_imul (pc := 56) hO dX4_spread_56 ?_
      refine v_iload (pc := 57) hO dX4_spread_57 rfl ?_
      refine v_iadd (pc := 59) hO dX4_spread_59 ?_
      refine r_iald (pc := 60) (w := F1 (12 * (c / 12 + (dY d)) + (c % 12 + (dX d)))) (L := 144) hO hr 8 ri_8 rfl rfl (by omega) (by omega) dX4_spread_60 ?_
      refine v_sipush (pc := 61) hO dX4_spread_61 (by decide +kernel) ?_
      refine v_icmp_ne (pc := 64) (tgt := 105) hO dX4_spread_64 (by decide) (by first | assumption | exact hr.zA 0 _ | exact hr.zA 8 _ | exact hr.zA 9 _ | exact hr.zS _ | exact hMz _ | exact hMz1 _ | exact zw_R _ | (unfold zR; omega)) (by first | assumption | exact hr.zA 0 _ | exact hr.zA 8 _ | exact hr.zA 9 _ | exact hr.zS _ | exact hMz _ | exact hMz1 _ | exact zw_R _ | (unfold zR; omega)) (fun c64 => ?_) (fun c64 => ?_)
      · refine v_iinc (pc := 105) hO (lv' := [(4, .inl (d + 1)), (6, .inl (c / 12 + (dY d))), (5, .inl (c % 12 + (dX d))), (0, sref am), (1, .inl c), (2, .inl n0), (3, .inl n1)]) dX4_spread_105 rfl (by decide) rfl ?_
        refine v_goto (pc := 108) (tgt := 5) hO dX4_spread_108 (by decide) ?_
        refine v_pick (lv2 := [(0, sref am), (1, .inl c), (2, .inl n0), (3, .inl n1), (4, .inl ((d + 1)))]) [3, 4, 5, 6, 0] rfl ?_
        exact ih (d + 1, F1, Qu1, n1, _) ⟨(by omega), (by omega), hr, (by have q9 := (BW_D (d := d) hd hb h0 h1 hc hc2).1; rw [(show sprD M c d (F1, Qu1, n1) = (F1, Qu1, n1) from if_neg (by intro e2; first | exact absurd e2.1 (by assumption) | exact absurd e2.2 (by assumption)))] at q9; exact q9), (by have q9 := (BW_D (d := d) hd hb h0 h1 hc hc2).2.1; rw [(show sprD M c d (F1, Qu1, n1) = (F1, Qu1, n1) from if_neg (by intro e2; first | exact absurd e2.1 (by assumption) | exact absurd e2.2 (by assumption)))] at q9; have q8 : (F1) c = F1 c := q9; show 0 ≤ (F1) c; omega), (by have q9 := (BW_D (d := d) hd hb h0 h1 hc hc2); rw [(show sprD M c d (F1, Qu1, n1) = (F1, Qu1, n1) from if_neg (by intro e2; first | exact absurd e2.1 (by assumption) | exact absurd e2.2 (by assumption)))] at q9; have q8 := q9.2.1; have q7 := q9.2.2.1; have q6 : n1 ≤ n1 := q7; have q5 : (F1) c = F1 c := q8; show (F1) c + 1 ≤ n1; omega), (hg.trans ((itI_s (by omega)).trans (by rw [(show sprD M c d (F1, Qu1, n1) = (F1, Qu1, n1) from if_neg (by intro e2; first | exact absurd e2.1 (by assumption) | exact absurd e2.2 (by assumption)))])))⟩ (by show ((4 : Int) - (d + 1)).toNat < ((4 : Int) - d).toNat; omega)
      · have hlt2 : n1 < 144 := hlt (by assumption) (by assumption); have hb5 : F1 c ≤ 1000 := hb4.2
        refine v_aload_n (pc := 67) hO dX4_spread_67 rfl ?_
        refine v_getf (pc := 68) (v := sref (ad 8)) hO cp_X4 8 q2133 hr.ob (by decide) rfl dX4_spread_68 ?_
        refine v_bipush (pc := 71) hO dX4_spread_71 (by decide +kernel) ?_
        refine v_iload (pc := 73) hO dX4_spread_73 rfl ?_
        refine v_imul (pc := 75) hO dX4_spread_75 ?_
        refine v_iload (pc := 76) hO dX4_spread_76 rfl ?_
        refine v_iadd (pc := 78) hO dX4_spread_78 ?_
        refine v_aload_n (pc := 79) hO dX4_spread_79 rfl ?_
        refine v_getf (pc := 80) (v := sref (ad 8)) hO cp_X4 8 q2133 hr.ob (by decide) rfl dX4_spread_80 ?_
        refine v_iload_n (pc := 83) hO dX4_spread_83 rfl ?_
        refine r_iald (pc := 84) (w := F1 c) (L := 144) hO hr 8 ri_8 rfl rfl (by omega) (by omega) dX4_spread_84 ?_
        refine v_iconst (pc := 85) hO dX4_spread_85 ?_
        refine v_iadd (pc := 86) hO dX4_spread_86 ?_
        refine r_iast (pc := 87) (Ar2 := (rA (rA (rA Ar 9 Qu1) 8 (zupd F1 (12 * (c / 12 + (dY d)) + (c % 12 + (dX d))) (F1 c + 1))) 0 M)) (L := 144) hO hr hA 8 ri_8 rfl (rA_up (by intro i e; simp only [rA, if_neg e]) rfl) (by omega) (by omega) (by first | assumption | exact hr.zA 0 _ | exact hr.zA 8 _ | exact hr.zA 9 _ | exact hr.zS _ | exact hMz _ | exact hMz1 _ | exact zw_R _ | (unfold zR; omega)) dX4_spread_87 (fun h hr => ?_)
        refine v_aload_n (pc := 88) hO dX4_spread_88 rfl ?_
        refine v_getf (pc := 89) (v := sref (ad 9)) hO cp_X4 9 q2134 hr.ob (by decide) rfl dX4_spread_89 ?_
        refine v_iload_n (pc := 92) hO dX4_spread_92 rfl ?_
        refine v_bipush (pc := 93) hO dX4_spread_93 (by decide +kernel) ?_
        refine v_iload (pc := 95) hO dX4_spread_95 rfl ?_
        refine v_imul (pc := 97) hO dX4_spread_97 ?_
        refine v_iload (pc := 98) hO dX4_spread_98 rfl ?_
        refine v_iadd (pc := 100) hO dX4_spread_100 ?_
        refine r_iast (pc := 101) (Ar2 := (rA (rA (rA Ar 9 (zupd Qu1 n1 (12 * (c / 12 + (dY d)) + (c % 12 + (dX d))))) 8 (zupd F1 (12 * (c / 12 + (dY d)) + (c % 12 + (dX d))) (F1 c + 1))) 0 M)) (L := 144) hO hr hA 9 ri_9 rfl (rA_up (by intro i e; simp only [rA, if_neg e]) rfl) (by omega) (by omega) (by first | assumption | exact hr.zA 0 _ | exact hr.zA 8 _ | exact hr.zA 9 _ | exact hr.zS _ | exact hMz _ | exact hMz1 _ | exact zw_R _ | (unfold zR; omega)) dX4_spread_101 (fun h hr => ?_)
        refine v_iinc (pc := 102) hO (lv' := [(3, .inl (n1 + 1)), (6, .inl (c / 12 + (dY d))), (5, .inl (c % 12 + (dX d))), (0, sref am), (1, .inl c), (2, .inl n0), (4, .inl d)]) dX4_spread_102 rfl (by decide) rfl ?_
        refine v_iinc (pc := 105) hO (lv' := [(4, .inl (d + 1)), (3, .inl (n1 + 1)), (6, .inl (c / 12 + (dY d))), (5, .inl (c % 12 + (dX d))), (0, sref am), (1, .inl c), (2, .inl n0)]) dX4_spread_105 rfl (by decide) rfl ?_
        refine v_goto (pc := 108) (tgt := 5) hO dX4_spread_108 (by decide) ?_
        refine v_pick (lv2 := [(0, sref am), (1, .inl c), (2, .inl n0), (3, .inl ((n1 + 1))), (4, .inl ((d + 1)))]) [4, 5, 6, 1, 0] rfl ?_
        exact ih (d + 1, zupd F1 (12 * (c / 12 + (dY d)) + (c % 12 + (dX d))) (F1 c + 1), zupd Qu1 n1 (12 * (c / 12 + (dY d)) + (c % 12 + (dX d))), n1 + 1, _) ⟨(by omega), (by omega), hr, (by have q9 := (BW_D (d := d) hd hb h0 h1 hc hc2).1; rw [(show sprD M c d (F1, Qu1, n1) = (zupd F1 (12 * (c / 12 + (dY d)) + (c % 12 + (dX d))) (F1 c + 1), zupd Qu1 n1 (12 * (c / 12 + (dY d)) + (c % 12 + (dX d))), n1 + 1) from if_pos ⟨by assumption, by assumption⟩)] at q9; exact q9), (by have q9 := (BW_D (d := d) hd hb h0 h1 hc hc2).2.1; rw [(show sprD M c d (F1, Qu1, n1) = (zupd F1 (12 * (c / 12 + (dY d)) + (c % 12 + (dX d))) (F1 c + 1), zupd Qu1 n1 (12 * (c / 12 + (dY d)) + (c % 12 + (dX d))), n1 + 1) from if_pos ⟨by assumption, by assumption⟩)] at q9; have q8 : (zupd F1 (12 * (c / 12 + (dY d)) + (c % 12 + (dX d))) (F1 c + 1)) c = F1 c := q9; show 0 ≤ (zupd F1 (12 * (c / 12 + (dY d)) + (c % 12 + (dX d))) (F1 c + 1)) c; omega), (by have q9 := (BW_D (d := d) hd hb h0 h1 hc hc2); rw [(show sprD M c d (F1, Qu1, n1) = (zupd F1 (12 * (c / 12 + (dY d)) + (c % 12 + (dX d))) (F1 c + 1), zupd Qu1 n1 (12 * (c / 12 + (dY d)) + (c % 12 + (dX d))), n1 + 1) from if_pos ⟨by assumption, by assumption⟩)] at q9; have q8 := q9.2.1; have q7 := q9.2.2.1; have q6 : n1 ≤ n1 + 1 := q7; have q5 : (zupd F1 (12 * (c / 12 + (dY d)) + (c % 12 + (dX d))) (F1 c + 1)) c = F1 c := q8; show (zupd F1 (12 * (c / 12 + (dY d)) + (c % 12 + (dX d))) (F1 c + 1)) c + 1 ≤ n1 + 1; omega), (hg.trans ((itI_s (by omega)).trans (by rw [(show sprD M c d (F1, Qu1, n1) = (zupd F1 (12 * (c / 12 + (dY d)) + (c % 12 + (dX d))) (F1 c + 1), zupd Qu1 n1 (12 * (c / 12 + (dY d)) + (c % 12 + (dX d))), n1 + 1) from if_pos ⟨by assumption, by assumption⟩)])))⟩ (by show ((4 : Int) - (d + 1)).toNat < ((4 : Int) - d).toNat; omega)
theorem yo_X4_layFar : yOK yX4_layFar 2 := by unfold yOK; exact ⟨by decide +kernel, by decide +kernel, by decide +kernel⟩
set_option maxRecDepth 100000 in
theorem m_layFar {G : GT} {h : AH} {am : Nat} {ad : Nat → Nat} {nmf : Int → Option Nat} {S : Nat → Int} {Ar : Nat → Int → Int} {M F Qu : Int → Int} (hr : RefAt G h am ad nmf S (rA (rA (rA Ar 9 Qu) 8 F) 0 M)) {A : Nat → Prop} (hA : ∀ q, RA am ad q → A q) (x y : Int) (hx : zR x) (hy : zR y) (hd : dimM M) : CC G yX4_layFar cX4_layFar 5 (none) ({ frames := 5, cells := 0, slots := 0, locals := 104 } : Room) A [sref am, .inl x, .inl y] h (fun v h1 => v = none ∧ RefAt G h1 am ad nmf S (rA (rA (rA Ar 9 (layS M x y F Qu).2.1) 8 (layS M x y F Qu).1) 0 M)) := by
  refine CC.of (by decide +kernel) [(0, sref am), (1, .inl x), (2, .inl y)] rfl (Nat.le_of_ble_eq_true rfl) (fun X hnm hO => ?_)
  have hMz : ∀ z, zR (M z) := fun z => hr.zA 0 z
  refine v_iconst (pc := 0) hO dX4_layFar_0 ?_
  refine v_istore_n (pc := 1) hO (lv' := [(3, .inl 0), (0, sref am), (1, .inl x), (2, .inl y)]) dX4_layFar_1 (by decide) rfl ?_
  refine v_pick (lv2 := [(0, sref am), (1, .inl x), (2, .inl y), (3, .inl 0)]) [1, 2, 3, 0] rfl ?_
  refine v_loop (σ := Int × (Int → Int) × AH) (fun (k, F1, hL) => 0 ≤ k ∧ k ≤ 144 ∧ RefAt G hL am ad nmf S (rA (rA (rA Ar 9 Qu) 8 F1) 0 M) ∧ (∀ z, F1 z = if 0 ≤ z ∧ z < k then 1000 else F z)) (fun (k, F1, hL) => (144 - k).toNat) (fun (k, F1, hL) => hL) (fun (k, F1, hL) => [(0, sref am), (1, .inl x), (2, .inl y), (3, .inl k)]) (0, F, h) ⟨Int.le_refl _, (by decide), hr, (fun z => by rw [if_neg (by omega)])⟩ ?_
  rintro ⟨k, F1, hL⟩ ⟨hk0, hk1, hr, hF⟩ ih
  show VV X G A _ _ _ hL _ _ 2 [(0, sref am), (1, .inl x), (2, .inl y), (3, .inl k)] []
  refine v_iload_n (pc := 2) hO dX4_layFar_2 rfl ?_
  refine v_sipush (pc := 3) hO dX4_layFar_3 (by decide +kernel) ?_
  refine v_icmp_ge (pc := 6) (tgt := 24) hO dX4_layFar_6 (by decide) (by first | assumption | exact hr.zA 0 _ | exact hr.zA 8 _ | exact hr.zA 9 _ | exact hr.zS _ | exact hMz _ | exact hMz1 _ | exact zw_R _ | (unfold zR; omega)) (by first | assumption | exact hr.zA 0 _ | exact hr.zA 8 _ | exact hr.zA 9 _ | exact hr.zS _ | exact hMz _ | exact hMz1 _ | exact zw_R _ | (unfold zR; omega)) (fun c6 => ?_) (fun c6 => ?_)
  · have hF1 : F1 = filM F := (by funext z; rw [hF z]; unfold filM; have ek : k = 144 := (by omega); subst ek; rfl)
    subst hF1
    refine v_aload_n (pc := 24) hO dX4_layFar_24 rfl ?_
    refine v_iload_n (pc := 25) hO dX4_layFar_25 rfl ?_
    refine v_iload_n (pc := 26) hO dX4_layFar_26 rfl ?_
    refine v_callV (pc := 27) (b := am) hO cp_X4 hr.ob (m_isFree hr x y (by first | assumption | exact hr.zA 0 _ | exact hr.zA 8 _ | exact hr.zA 9 _ | exact hr.zS _ | exact hMz _ | exact hMz1 _ | (unfold zR; omega)) (by first | assumption | exact hr.zA 0 _ | exact hr.zA 8 _ | exact hr.zA 9 _ | exact hr.zS _ | exact hMz _ | exact hMz1 _ | (unfold zR; omega)) hd) (lw_V q2318 q2320 qs48 q117 q2321) yo_X4_isFree rfl rfl rfl (by decide) (by decide) (k2 := 0) (n2 := 0) (by decide) (by decide) (by decide) (by decide) dX4_layFar_27 (fun va hv hp hf1 => ?_)
    obtain ⟨rfl, rfl⟩ := hp
    refine v_ifb_ne (pc := 30) (tgt := 34) hO dX4_layFar_30 (by decide) (fun c30 => ?_) (fun c30 => ?_)
    · refine v_aload_n (pc := 34) hO dX4_layFar_34 rfl ?_
      refine v_getf (pc := 35) (v := sref (ad 8)) hO cp_X4 8 q2133 hr.ob (by decide) rfl dX4_layFar_35 ?_
      refine v_bipush (pc := 38) hO dX4_layFar_38 (by decide +kernel) ?_
      refine v_iload_n (pc := 40) hO dX4_layFar_40 rfl ?_
      refine v_imul (pc := 41) hO dX4_layFar_41 ?_
      refine v_iload_n (pc := 42) hO dX4_layFar_42 rfl ?_
      refine v_iadd (pc := 43) hO dX4_layFar_43 ?_
      refine v_iconst (pc := 44) hO dX4_layFar_44 ?_
      refine r_iast (pc := 45) (Ar2 := (rA (rA (rA Ar 9 Qu) 8 (zupd (filM F) (12 * y + x) 0)) 0 M)) (L := 144) hO hr hA 8 ri_8 rfl (rA_up (by intro i e; simp only [rA, if_neg e]) rfl) (by omega) (by omega) (by first | assumption | exact hr.zA 0 _ | exact hr.zA 8 _ | exact hr.zA 9 _ | exact hr.zS _ | exact hMz _ | exact hMz1 _ | exact zw_R _ | (unfold zR; omega)) dX4_layFar_45 (fun h hr => ?_)
      refine v_aload_n (pc := 46) hO dX4_layFar_46 rfl ?_
      refine v_getf (pc := 47) (v := sref (ad 9)) hO cp_X4 9 q2134 hr.ob (by decide) rfl dX4_layFar_47 ?_
      refine v_iconst (pc := 50) hO dX4_layFar_50 ?_
      refine v_bipush (pc := 51) hO dX4_layFar_51 (by decide +kernel) ?_
      refine v_iload_n (pc := 53) hO dX4_layFar_53 rfl ?_
      refine v_imul (pc := 54) hO dX4_layFar_54 ?_
      refine v_iload_n (pc := 55) hO dX4_layFar_55 rfl ?_
      refine v_iadd (pc := 56) hO dX4_layFar_56 ?_
      refine r_iast (pc := 57) (Ar2 := (rA (rA (rA Ar 9 (zupd Qu 0 (12 * y + x))) 8 (zupd (filM F) (12 * y + x) 0)) 0 M)) (L := 144) hO hr hA 9 ri_9 rfl (rA_up (by intro i e; simp only [rA, if_neg e]) rfl) (by omega) (by omega) (by first | assumption | exact hr.zA 0 _ | exact hr.zA 8 _ | exact hr.zA 9 _ | exact hr.zS _ | exact hMz _ | exact hMz1 _ | exact zw_R _ | (unfold zR; omega)) dX4_layFar_57 (fun h hr => ?_)
      refine v_iconst (pc := 58) hO dX4_layFar_58 ?_
      refine v_istore_n (pc := 59) hO (lv' := [(3, .inl 1), (0, sref am), (1, .inl x), (2, .inl y)]) dX4_layFar_59 (by decide) rfl ?_
      refine v_iconst (pc := 60) hO dX4_layFar_60 ?_
      refine v_istore (pc := 61) hO (lv' := [(4, .inl 0), (3, .inl 1), (0, sref am), (1, .inl x), (2, .inl y)]) dX4_layFar_61 (by decide) rfl ?_
      refine v_pick (lv2 := [(0, sref am), (1, .inl x), (2, .inl y), (3, .inl 1), (4, .inl 0)]) [2, 3, 4, 1, 0] rfl ?_
      refine v_loop (σ := Int × (Int → Int) × (Int → Int) × Int × AH) (fun (k, F1, Qu1, n1, hL) => 0 ≤ k ∧ k ≤ n1 ∧ BW (F1, Qu1, n1) ∧ RefAt G hL am ad nmf S (rA (rA (rA Ar 9 Qu1) 8 F1) 0 M) ∧ layS M x y F Qu = bfsM M (145 - k).toNat k (F1, Qu1, n1)) (fun (k, F1, Qu1, n1, hL) => (145 - k).toNat) (fun (k, F1, Qu1, n1, hL) => hL) (fun (k, F1, Qu1, n1, hL) => [(0, sref am), (1, .inl x), (2, .inl y), (3, .inl n1), (4, .inl k)]) (0, zupd (filM F) (12 * y + x) 0, zupd Qu 0 (12 * y + x), 1, _) ⟨Int.le_refl _, (by decide), (BW_0 F Qu (by omega) (by omega)), hr, (if_pos (by assumption))⟩ ?_
      rintro ⟨k, F1, Qu1, n1, hL⟩ ⟨hk0, hkn, hb, hr, hg⟩ ih
      show VV X G A _ _ _ hL _ _ 63 [(0, sref am), (1, .inl x), (2, .inl y), (3, .inl n1), (4, .inl k)] []
      
      refine v_iload (pc := 63) hO dX4_layFar_63 rfl ?_
      refine v_iload_n (pc := 65) hO dX4_layFar_65 rfl ?_
      have hbn : n1 ≤ 144 := BW.n hb
      refine v_icmp_ge (pc := 66) (tgt := 88) hO dX4_layFar_66 (by decide) (by first | assumption | exact hr.zA 0 _ | exact hr.zA 8 _ | exact hr.zA 9 _ | exact hr.zS _ | exact hMz _ | exact hMz1 _ | exact zw_R _ | (unfold zR; omega)) (by first | assumption | exact hr.zA 0 _ | exact hr.zA 8 _ | exact hr.zA 9 _ | exact hr.zS _ | exact hMz _ | exact hMz1 _ | exact zw_R _ | (unfold zR; omega)) (fun c66 => ?_) (fun c66 => ?_)
      · have hg : layS M x y F Qu = (F1, Qu1, n1) := hg.trans (bfsM_e (show n1 ≤ k by omega))
        have hr : RefAt G hL am ad nmf S (rA (rA (rA Ar 9 (layS M x y F Qu).2.1) 8 (layS M x y F Qu).1) 0 M) := (by rw [hg]; exact hr)
        exact v_vret hO dX4_layFar_88 rfl (Nat.le_of_ble_eq_true rfl) (Nat.le_of_ble_eq_true rfl) ⟨rfl, hr⟩
      · obtain ⟨hc0, hc1, hc2, hc3⟩ := hb.2.2.1 k hk0 (by omega)
        have hc0 : 0 ≤ Qu1 k := hc0
        have hc1 : Qu1 k < 144 := hc1
        have hc2 : 0 ≤ F1 (Qu1 k) := hc2
        have hc3 : F1 (Qu1 k) + 1 ≤ n1 := (by have q9 : F1 (Qu1 k) ≤ k := hc3; omega)
        refine v_aload_n (pc := 69) hO dX4_layFar_69 rfl ?_
        refine v_aload_n (pc := 70) hO dX4_layFar_70 rfl ?_
        refine v_getf (pc := 71) (v := sref (ad 9)) hO cp_X4 9 q2134 hr.ob (by decide) rfl dX4_layFar_71 ?_
        refine v_iload (pc := 74) hO dX4_layFar_74 rfl ?_
        refine r_iald (pc := 76) (w := Qu1 k) (L := 144) hO hr 9 ri_9 rfl rfl (by omega) (by omega) dX4_layFar_76 ?_
        refine v_iload_n (pc := 77) hO dX4_layFar_77 rfl ?_
        refine v_callV (pc := 78) (b := am) hO cp_X4 hr.ob (m_spread hr hA (Qu1 k) n1 hc0 hc1 hd hb hc2 hc3) (lw_V q2346 q2348 qs52 q117 q2349) yo_X4_spread rfl rfl rfl (by decide) (by decide) (k2 := 0) (n2 := 0) (by decide) (by decide) (by decide) (by decide) dX4_layFar_78 (fun va hv hp hf1 => ?_)
        obtain ⟨rfl, hr⟩ := hp
        refine v_istore_n (pc := 81) hO (lv' := [(3, .inl ((sprM M (Qu1 k) (F1, Qu1, n1)).2.2)), (0, sref am), (1, .inl x), (2, .inl y), (4, .inl k)]) dX4_layFar_81 (by decide) rfl ?_
        refine v_iinc (pc := 82) hO (lv' := [(4, .inl (k + 1)), (3, .inl ((sprM M (Qu1 k) (F1, Qu1, n1)).2.2)), (0, sref am), (1, .inl x), (2, .inl y)]) dX4_layFar_82 rfl (by decide) rfl ?_
        refine v_goto (pc := 85) (tgt := 63) hO dX4_layFar_85 (by decide) ?_
        refine v_pick (lv2 := [(0, sref am), (1, .inl x), (2, .inl y), (3, .inl (((sprM M (Qu1 k) (F1, Qu1, n1)).2.2))), (4, .inl ((k + 1)))]) [2, 3, 4, 1, 0] rfl ?_
        exact ih (k + 1, (sprM M (Qu1 k) (F1, Qu1, n1)).1, (sprM M (Qu1 k) (F1, Qu1, n1)).2.1, (sprM M (Qu1 k) (F1, Qu1, n1)).2.2, _) ⟨(by omega), (by have q9 := (BW_it hd hc0 hc1 ((4 : Int) - 0).toNat 0 (F1, Qu1, n1) hb hc2 hc3).2.2.1; have q8 : n1 ≤ (sprM M (Qu1 k) (F1, Qu1, n1)).2.2 := q9; omega), (BW_it hd hc0 hc1 ((4 : Int) - 0).toNat 0 (F1, Qu1, n1) hb hc2 hc3).1, hr, (hg.trans (by rw [show (145 - k).toNat = (145 - (k + 1)).toNat + 1 by omega]; exact bfsM_s (show k < n1 by omega)))⟩ (by show (145 - (k + 1)).toNat < (145 - k).toNat; omega)
    · have hg : layS M x y F Qu = (filM F, Qu, 0) := if_neg (by assumption)
      have hr : RefAt G hL am ad nmf S (rA (rA (rA Ar 9 (layS M x y F Qu).2.1) 8 (layS M x y F Qu).1) 0 M) := (by rw [hg]; exact hr)
      exact v_vret hO dX4_layFar_33 rfl (Nat.le_of_ble_eq_true rfl) (Nat.le_of_ble_eq_true rfl) ⟨rfl, hr⟩
  · refine v_aload_n (pc := 9) hO dX4_layFar_9 rfl ?_
    refine v_getf (pc := 10) (v := sref (ad 8)) hO cp_X4 8 q2133 hr.ob (by decide) rfl dX4_layFar_10 ?_
    refine v_iload_n (pc := 13) hO dX4_layFar_13 rfl ?_
    refine v_sipush (pc := 14) hO dX4_layFar_14 (by decide +kernel) ?_
    refine r_iast (pc := 17) (Ar2 := (rA (rA (rA Ar 9 Qu) 8 (zupd F1 k 1000)) 0 M)) (L := 144) hO hr hA 8 ri_8 rfl (rA_up (by intro i e; simp only [rA, if_neg e]) rfl) (by omega) (by omega) (by first | assumption | exact hr.zA 0 _ | exact hr.zA 8 _ | exact hr.zA 9 _ | exact hr.zS _ | exact hMz _ | exact hMz1 _ | exact zw_R _ | (unfold zR; omega)) dX4_layFar_17 (fun h hr => ?_)
    refine v_iinc (pc := 18) hO (lv' := [(3, .inl (k + 1)), (0, sref am), (1, .inl x), (2, .inl y)]) dX4_layFar_18 rfl (by decide) rfl ?_
    refine v_goto (pc := 21) (tgt := 2) hO dX4_layFar_21 (by decide) ?_
    refine v_pick (lv2 := [(0, sref am), (1, .inl x), (2, .inl y), (3, .inl ((k + 1)))]) [1, 2, 3, 0] rfl ?_
    exact ih (k + 1, zupd F1 k 1000, _) ⟨(by omega), (by omega), hr, (fun z => by
        by_cases e : z = k
        · subst e; rw [zupd_s, if_pos (by omega)]
        · rw [zupd_n e, hF z]; (repeat' split) <;> first | rfl | omega)⟩ (by show (144 - (k + 1)).toNat < (144 - k).toNat; omega)
