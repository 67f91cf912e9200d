/-! THE REFERENCE, 3: what a turn does -/
set_option maxRecDepth 100000
/-- the other arrays stay, but the two of distances -/
def scr (Ar2 Ar : Nat → Int → Int) : Prop := ∀ j, j ≠ 0 → j ≠ 8 → j ≠ 9 → Ar2 j = Ar j
theorem scr_rf (Ar : Nat → Int → Int) : scr Ar Ar := fun _ _ _ _ => rfl
theorem scr.tr {a b c : Nat → Int → Int} (h1 : scr a b) (h2 : scr b c) : scr a c := fun j g0 g8 g9 => (h1 j g0 g8 g9).trans (h2 j g0 g8 g9)
theorem scr_89 (Ar : Nat → Int → Int) (F Qu : Int → Int) : scr (rA (rA Ar 9 Qu) 8 F) Ar := fun j _ h8 h9 => by rw [rA_n h8, rA_n h9]
theorem RefAt.x89 {G : GT} {h : AH} {am : Nat} {ad : Nat → Nat} {nmf : Int → Option Nat} {S : Nat → Int} {Ar : Nat → Int → Int} {M : Int → Int} (hr : RefAt G h am ad nmf S (rA Ar 0 M)) : RefAt G h am ad nmf S (rA (rA (rA Ar 9 (Ar 9)) 8 (Ar 8)) 0 M) := by
  have e1 : rA Ar 9 (Ar 9) = Ar := rA_id Ar 9
  have e2 : rA Ar 8 (Ar 8) = Ar := rA_id Ar 8
  rw [e1, e2]; exact hr
theorem yo_X4_become : yOK yX4_become 2 := by unfold yOK; exact ⟨by decide +kernel, by decide +kernel, by decide +kernel⟩
set_option maxRecDepth 100000 in
theorem m_become {G : GT} {h : AH} {am : Nat} {ad : Nat → Nat} {nmf : Int → Option Nat} {S : Nat → Int} {Ar : Nat → Int → Int} {M : Int → Int} (hr : RefAt G h am ad nmf S (rA Ar 0 M)) {A : Nat → Prop} (hA : ∀ q, RA am ad q → A q) (o s : Int) (h1 : 0 ≤ o) (h2 : o < 40) (hs : zR s) (h3 : 0 ≤ M 7) (h4 : M 7 < 80) : CC G yX4_become cX4_become 4 (none) ({ frames := 2, cells := 0, slots := 0, locals := 33 } : Room) A [sref am, .inl o, .inl s] h (fun v h1 => v = none ∧ RefAt G h1 am ad nmf S (rA Ar 0 (becM M o s))) := by
  refine CC.of (by decide +kernel) [(0, sref am), (1, .inl o), (2, .inl s)] rfl (Nat.le_of_ble_eq_true rfl) (fun X hnm hO => ?_)
  have hMz : ∀ z, zR (M z) := fun z => hr.zA 0 z
  refine v_sipush (pc := 0) hO dX4_become_0 (by decide +kernel) ?_
  refine v_iconst (pc := 3) hO dX4_become_3 ?_
  refine v_aload_n (pc := 4) hO dX4_become_4 rfl ?_
  refine v_getf (pc := 5) (v := sref (ad 0)) hO cp_X4 0 q2125 hr.ob (by decide) rfl dX4_become_5 ?_
  refine v_bipush (pc := 8) hO dX4_become_8 (by decide +kernel) ?_
  refine r_iald (pc := 10) (w := M 7) (L := 3934) hO hr 0 ri_0 rfl rfl (by omega) (by omega) dX4_become_10 ?_
  refine v_imul (pc := 11) hO dX4_become_11 ?_
  refine v_iadd (pc := 12) hO dX4_become_12 ?_
  refine v_istore_n (pc := 13) hO (lv' := [(3, .inl (544 + (3 * (M 7)))), (0, sref am), (1, .inl o), (2, .inl s)]) dX4_become_13 (by decide) rfl ?_
  refine v_aload_n (pc := 14) hO dX4_become_14 rfl ?_
  refine v_getf (pc := 15) (v := sref (ad 0)) hO cp_X4 0 q2125 hr.ob (by decide) rfl dX4_become_15 ?_
  refine v_iload_n (pc := 18) hO dX4_become_18 rfl ?_
  refine v_aload_n (pc := 19) hO dX4_become_19 rfl ?_
  refine v_callV (pc := 20) (b := am) hO cp_X4 hr.ob (m_turnNow hr) (lw_V q2264 q2266 qs41 q117 q2267) yo_X4_turnNow rfl rfl rfl (by decide) (by decide) (k2 := 0) (n2 := 0) (by decide) (by decide) (by decide) (by decide) dX4_become_20 (fun va hv hp hf1 => ?_)
  obtain ⟨rfl, rfl⟩ := hp
  refine r_iast (pc := 23) (Ar2 := (rA Ar 0 (zupd M (544 + (3 * (M 7))) (M 5)))) (L := 3934) hO hr hA 0 ri_0 rfl (rA_rA _ _ _ _) (by omega) (by omega) (by first | assumption | exact hr.zA 0 _ | exact hr.zA 8 _ | exact hr.zA 9 _ | exact hr.zS _ | exact hMz _ | exact hMz1 _ | exact zw_R _ | (unfold zR; omega)) dX4_become_23 (fun h hr => ?_)
  refine v_aload_n (pc := 24) hO dX4_become_24 rfl ?_
  refine v_getf (pc := 25) (v := sref (ad 0)) hO cp_X4 0 q2125 hr.ob (by decide) rfl dX4_become_25 ?_
  refine v_iload_n (pc := 28) hO dX4_become_28 rfl ?_
  refine v_iconst (pc := 29) hO dX4_become_29 ?_
  refine v_iadd (pc := 30) hO dX4_become_30 ?_
  refine v_iload_n (pc := 31) hO dX4_become_31 rfl ?_
  refine r_iast (pc := 32) (Ar2 := (rA Ar 0 (zupd (zupd M (544 + (3 * (M 7))) (M 5)) (544 + (3 * (M 7)) + 1) o))) (L := 3934) hO hr hA 0 ri_0 rfl (rA_rA _ _ _ _) (by omega) (by omega) (by first | assumption | exact hr.zA 0 _ | exact hr.zA 8 _ | exact hr.zA 9 _ | exact hr.zS _ | exact hMz _ | exact hMz1 _ | exact zw_R _ | (unfold zR; omega)) dX4_become_32 (fun h hr => ?_)
  refine v_aload_n (pc := 33) hO dX4_become_33 rfl ?_
  refine v_getf (pc := 34) (v := sref (ad 0)) hO cp_X4 0 q2125 hr.ob (by decide) rfl dX4_become_34 ?_
  refine v_iload_n (pc := 37) hO dX4_become_37 rfl ?_
  refine v_iconst (pc := 38) hO dX4_become_38 ?_
  refine v_iadd (pc := 39) hO dX4_become_39 ?_
  refine v_iload_n (pc := 40) hO dX4_become_40 rfl ?_
  refine r_iast (pc := 41) (Ar2 := (rA Ar 0 (zupd (zupd (zupd M (544 + (3 * (M 7))) (M 5)) (544 + (3 * (M 7)) + 1) o) (544 + (3 * (M 7)) + 2) s))) (L := 3934) hO hr hA 0 ri_0 rfl (rA_rA _ _ _ _) (by omega) (by omega) (by first | assumption | exact hr.zA 0 _ | exact hr.zA 8 _ | exact hr.zA 9 _ | exact hr.zS _ | exact hMz _ | exact hMz1 _ | exact zw_R _ | (unfold zR; omega)) dX4_become_41 (fun h hr => ?_)
  refine v_aload_n (pc := 42) hO dX4_become_42 rfl ?_
  refine v_getf (pc := 43) (v := sref (ad 0)) hO cp_X4 0 q2125 hr.ob (by decide) rfl dX4_become_43 ?_
  refine v_bipush (pc := 46) hO dX4_become_46 (by decide +kernel) ?_
  refine v_dup2 (pc := 48) hO dX4_become_48 rfl rfl ?_
  refine r_iald (pc := 49) (w := M 7) (L := 3934) hO hr 0 ri_0 rfl ((zupd_n (by omega)).trans ((zupd_n (by omega)).trans (zupd_n (by omega)))) (by omega) (by omega) dX4_become_49 ?_
  refine v_iconst (pc := 50) hO dX4_become_50 ?_
  refine v_iadd (pc := 51) hO dX4_become_51 ?_
  refine r_iast (pc := 52) (Ar2 := (rA Ar 0 (zupd (zupd (zupd (zupd M (544 + (3 * (M 7))) (M 5)) (544 + (3 * (M 7)) + 1) o) (544 + (3 * (M 7)) + 2) s) 7 (M 7 + 1)))) (L := 3934) hO hr hA 0 ri_0 rfl (rA_rA _ _ _ _) (by omega) (by omega) (by first | assumption | exact hr.zA 0 _ | exact hr.zA 8 _ | exact hr.zA 9 _ | exact hr.zS _ | exact hMz _ | exact hMz1 _ | exact zw_R _ | (unfold zR; omega)) dX4_become_52 (fun h hr => ?_)
  refine v_aload_n (pc := 53) hO dX4_become_53 rfl ?_
  refine v_getf (pc := 54) (v := sref (ad 0)) hO cp_X4 0 q2125 hr.ob (by decide) rfl dX4_become_54 ?_
  refine v_iload_n (pc := 57) hO dX4_become_57 rfl ?_
  refine v_iconst (pc := 58) hO dX4_become_58 ?_
  refine v_callS (pc := 59) hO (m_orderAt o 3) (lw_S q2249 q2250 q117 q2251) yo_X4_orderAt rfl rfl (by decide) (by decide) (k2 := 0) (n2 := 0) (by decide) (by decide) (by decide) (by decide) dX4_become_59 (fun va hv hp hf1 => ?_)
  obtain ⟨rfl, rfl⟩ := hp
  refine v_iload_n (pc := 62) hO dX4_become_62 rfl ?_
  refine r_iast (pc := 63) (Ar2 := (rA Ar 0 (zupd (zupd (zupd (zupd (zupd M (544 + (3 * (M 7))) (M 5)) (544 + (3 * (M 7)) + 1) o) (544 + (3 * (M 7)) + 2) s) 7 (M 7 + 1)) (64 + 10 * o + 3) s))) (L := 3934) hO hr hA 0 ri_0 rfl (rA_rA _ _ _ _) (by omega) (by omega) (by first | assumption | exact hr.zA 0 _ | exact hr.zA 8 _ | exact hr.zA 9 _ | exact hr.zS _ | exact hMz _ | exact hMz1 _ | exact zw_R _ | (unfold zR; omega)) dX4_become_63 (fun h hr => ?_)
  refine v_aload_n (pc := 64) hO dX4_become_64 rfl ?_
  refine v_getf (pc := 65) (v := sref (ad 0)) hO cp_X4 0 q2125 hr.ob (by decide) rfl dX4_become_65 ?_
  refine v_iload_n (pc := 68) hO dX4_become_68 rfl ?_
  refine v_bipush (pc := 69) hO dX4_become_69 (by decide +kernel) ?_
  refine v_callS (pc := 71) hO (m_orderAt o 6) (lw_S q2249 q2250 q117 q2251) yo_X4_orderAt rfl rfl (by decide) (by decide) (k2 := 0) (n2 := 0) (by decide) (by decide) (by decide) (by decide) dX4_become_71 (fun va hv hp hf1 => ?_)
  obtain ⟨rfl, rfl⟩ := hp
  refine v_iload_n (pc := 74) hO dX4_become_74 rfl ?_
  refine v_iconst (pc := 75) hO dX4_become_75 ?_
  refine v_icmp_ne (pc := 76) (tgt := 83) hO dX4_become_76 (by decide) (by first | assumption | exact hr.zA 0 _ | exact hr.zA 8 _ | exact hr.zA 9 _ | exact hr.zS _ | exact hMz _ | exact hMz1 _ | exact zw_R _ | (unfold zR; omega)) (by first | assumption | exact hr.zA 0 _ | exact hr.zA 8 _ | exact hr.zA 9 _ | exact hr.zS _ | exact hMz _ | exact hMz1 _ | exact zw_R _ | (unfold zR; omega)) (fun c76 => ?_) (fun c76 => ?_)
  · refine v_aload_n (pc := 83) hO dX4_become_83 rfl ?_
    refine v_callV (pc := 84) (b := am) hO cp_X4 hr.ob (m_turnNow hr) (lw_V q2264 q2266 qs41 q117 q2267) yo_X4_turnNow rfl rfl rfl (by decide) (by decide) (k2 := 0) (n2 := 0) (by decide) (by decide) (by decide) (by decide) dX4_become_84 (fun va hv hp hf1 => ?_)
    obtain ⟨rfl, rfl⟩ := hp
    refine v_ttop (w := M 5) ((zupd_n (by omega)).trans ((zupd_n (by omega)).trans ((zupd_n (by omega)).trans ((zupd_n (by omega)).trans (zupd_n (by omega)))))) ?_
    refine r_iast (pc := 87) (Ar2 := (rA Ar 0 (zupd (zupd (zupd (zupd (zupd (zupd M (544 + (3 * (M 7))) (M 5)) (544 + (3 * (M 7)) + 1) o) (544 + (3 * (M 7)) + 2) s) 7 (M 7 + 1)) (64 + 10 * o + 3) s) (64 + 10 * o + 6) (M 5)))) (L := 3934) hO hr hA 0 ri_0 rfl (rA_rA _ _ _ _) (by omega) (by omega) (by first | assumption | exact hr.zA 0 _ | exact hr.zA 8 _ | exact hr.zA 9 _ | exact hr.zS _ | exact hMz _ | exact hMz1 _ | exact zw_R _ | (unfold zR; omega)) dX4_become_87 (fun h hr => ?_)
    exact v_vret hO dX4_become_88 rfl (Nat.le_of_ble_eq_true rfl) (Nat.le_of_ble_eq_true rfl) ⟨rfl, (by unfold becM; rw [if_neg (by omega)]; exact hr)⟩
  · refine v_iconst (pc := 79) hO dX4_become_79 ?_
    refine v_goto (pc := 80) (tgt := 87) hO dX4_become_80 (by decide) ?_
    refine r_iast (pc := 87) (Ar2 := (rA Ar 0 (zupd (zupd (zupd (zupd (zupd (zupd M (544 + (3 * (M 7))) (M 5)) (544 + (3 * (M 7)) + 1) o) (544 + (3 * (M 7)) + 2) s) 7 (M 7 + 1)) (64 + 10 * o + 3) s) (64 + 10 * o + 6) ((-1))))) (L := 3934) hO hr hA 0 ri_0 rfl (rA_rA _ _ _ _) (by omega) (by omega) (by first | assumption | exact hr.zA 0 _ | exact hr.zA 8 _ | exact hr.zA 9 _ | exact hr.zS _ | exact hMz _ | exact hMz1 _ | exact zw_R _ | (unfold zR; omega)) dX4_become_87 (fun h hr => ?_)
    exact v_vret hO dX4_become_88 rfl (Nat.le_of_ble_eq_true rfl) (Nat.le_of_ble_eq_true rfl) ⟨rfl, (by unfold becM; rw [if_pos (by omega)]; exact hr)⟩
theorem yo_X4_dispatch : yOK yX4_dispatch 3 := by unfold yOK; exact ⟨by decide +kernel, by decide +kernel, by decide +kernel⟩
set_option maxRecDepth 100000 in
theorem m_dispatch {G : GT} {h : AH} {am : Nat} {ad : Nat → Nat} {nmf : Int → Option Nat} {S : Nat → Int} {Ar : Nat → Int → Int} {M : Int → Int} (hr : RefAt G h am ad nmf S (rA Ar 0 M)) {A : Nat → Prop} (hA : ∀ q, RA am ad q → A q) (u x y : Int) (hu : zR u) (hx : zR x) (hy : zR y) (h3 : 0 ≤ M 4) (h4 : M 4 < 40) : CC G yX4_dispatch cX4_dispatch 5 (none) ({ frames := 2, cells := 0, slots := 0, locals := 33 } : Room) A [sref am, .inl u, .inl x, .inl y] h (fun v h1 => v = none ∧ RefAt G h1 am ad nmf S (rA Ar 0 (dspM M u x y))) := by
  refine CC.of (by decide +kernel) [(0, sref am), (1, .inl u), (2, .inl x), (3, .inl y)] rfl (Nat.le_of_ble_eq_true rfl) (fun X hnm hO => ?_)
  have hMz : ∀ z, zR (M z) := fun z => hr.zA 0 z
  refine v_aload_n (pc := 0) hO dX4_dispatch_0 rfl ?_
  refine v_getf (pc := 1) (v := sref (ad 0)) hO cp_X4 0 q2125 hr.ob (by decide) rfl dX4_dispatch_1 ?_
  refine v_iconst (pc := 4) hO dX4_dispatch_4 ?_
  refine r_iald (pc := 5) (w := M 4) (L := 3934) hO hr 0 ri_0 rfl rfl (by omega) (by omega) dX4_dispatch_5 ?_
  refine v_istore (pc := 6) hO (lv' := [(4, .inl (M 4)), (0, sref am), (1, .inl u), (2, .inl x), (3, .inl y)]) dX4_dispatch_6 (by decide) rfl ?_
  refine v_aload_n (pc := 8) hO dX4_dispatch_8 rfl ?_
  refine v_getf (pc := 9) (v := sref (ad 0)) hO cp_X4 0 q2125 hr.ob (by decide) rfl dX4_dispatch_9 ?_
  refine v_iload (pc := 12) hO dX4_dispatch_12 rfl ?_
  refine v_iconst (pc := 14) hO dX4_dispatch_14 ?_
  refine v_callS (pc := 15) hO (m_orderAt (M 4) 0) (lw_S q2249 q2250 q117 q2251) yo_X4_orderAt rfl rfl (by decide) (by decide) (k2 := 0) (n2 := 0) (by decide) (by decide) (by decide) (by decide) dX4_dispatch_15 (fun va hv hp hf1 => ?_)
  obtain ⟨rfl, rfl⟩ := hp
  refine v_iload_n (pc := 18) hO dX4_dispatch_18 rfl ?_
  refine r_iast (pc := 19) (Ar2 := (rA Ar 0 (zupd M (64 + 10 * (M 4) + 0) u))) (L := 3934) hO hr hA 0 ri_0 rfl (rA_rA _ _ _ _) (by omega) (by omega) (by first | assumption | exact hr.zA 0 _ | exact hr.zA 8 _ | exact hr.zA 9 _ | exact hr.zS _ | exact hMz _ | exact hMz1 _ | exact zw_R _ | (unfold zR; omega)) dX4_dispatch_19 (fun h hr => ?_)
  refine v_aload_n (pc := 20) hO dX4_dispatch_20 rfl ?_
  refine v_getf (pc := 21) (v := sref (ad 0)) hO cp_X4 0 q2125 hr.ob (by decide) rfl dX4_dispatch_21 ?_
  refine v_iload (pc := 24) hO dX4_dispatch_24 rfl ?_
  refine v_iconst (pc := 26) hO dX4_dispatch_26 ?_
  refine v_callS (pc := 27) hO (m_orderAt (M 4) 1) (lw_S q2249 q2250 q117 q2251) yo_X4_orderAt rfl rfl (by decide) (by decide) (k2 := 0) (n2 := 0) (by decide) (by decide) (by decide) (by decide) dX4_dispatch_27 (fun va hv hp hf1 => ?_)
  obtain ⟨rfl, rfl⟩ := hp
  refine v_iload_n (pc := 30) hO dX4_dispatch_30 rfl ?_
  refine r_iast (pc := 31) (Ar2 := (rA Ar 0 (zupd (zupd M (64 + 10 * (M 4) + 0) u) (64 + 10 * (M 4) + 1) x))) (L := 3934) hO hr hA 0 ri_0 rfl (rA_rA _ _ _ _) (by omega) (by omega) (by first | assumption | exact hr.zA 0 _ | exact hr.zA 8 _ | exact hr.zA 9 _ | exact hr.zS _ | exact hMz _ | exact hMz1 _ | exact zw_R _ | (unfold zR; omega)) dX4_dispatch_31 (fun h hr => ?_)
  refine v_aload_n (pc := 32) hO dX4_dispatch_32 rfl ?_
  refine v_getf (pc := 33) (v := sref (ad 0)) hO cp_X4 0 q2125 hr.ob (by decide) rfl dX4_dispatch_33 ?_
  refine v_iload (pc := 36) hO dX4_dispatch_36 rfl ?_
  refine v_iconst (pc := 38) hO dX4_dispatch_38 ?_
  refine v_callS (pc := 39) hO (m_orderAt (M 4) 2) (lw_S q2249 q2250 q117 q2251) yo_X4_orderAt rfl rfl (by decide) (by decide) (k2 := 0) (n2 := 0) (by decide) (by decide) (by decide) (by decide) dX4_dispatch_39 (fun va hv hp hf1 => ?_)
  obtain ⟨rfl, rfl⟩ := hp
  refine v_iload_n (pc := 42) hO dX4_dispatch_42 rfl ?_
  refine r_iast (pc := 43) (Ar2 := (rA Ar 0 (zupd (zupd (zupd M (64 + 10 * (M 4) + 0) u) (64 + 10 * (M 4) + 1) x) (64 + 10 * (M 4) + 2) y))) (L := 3934) hO hr hA 0 ri_0 rfl (rA_rA _ _ _ _) (by omega) (by omega) (by first | assumption | exact hr.zA 0 _ | exact hr.zA 8 _ | exact hr.zA 9 _ | exact hr.zS _ | exact hMz _ | exact hMz1 _ | exact zw_R _ | (unfold zR; omega)) dX4_dispatch_43 (fun h hr => ?_)
  refine v_aload_n (pc := 44) hO dX4_dispatch_44 rfl ?_
  refine v_getf (pc := 45) (v := sref (ad 0)) hO cp_X4 0 q2125 hr.ob (by decide) rfl dX4_dispatch_45 ?_
  refine v_iload (pc := 48) hO dX4_dispatch_48 rfl ?_
  refine v_iconst (pc := 50) hO dX4_dispatch_50 ?_
  refine v_callS (pc := 51) hO (m_orderAt (M 4) 3) (lw_S q2249 q2250 q117 q2251) yo_X4_orderAt rfl rfl (by decide) (by decide) (k2 := 0) (n2 := 0) (by decide) (by decide) (by decide) (by decide) dX4_dispatch_51 (fun va hv hp hf1 => ?_)
  obtain ⟨rfl, rfl⟩ := hp
  refine v_iconst (pc := 54) hO dX4_dispatch_54 ?_
  refine r_iast (pc := 55) (Ar2 := (rA Ar 0 (zupd (zupd (zupd (zupd M (64 + 10 * (M 4) + 0) u) (64 + 10 * (M 4) + 1) x) (64 + 10 * (M 4) + 2) y) (64 + 10 * (M 4) + 3) 0))) (L := 3934) hO hr hA 0 ri_0 rfl (rA_rA _ _ _ _) (by omega) (by omega) (by first | assumption | exact hr.zA 0 _ | exact hr.zA 8 _ | exact hr.zA 9 _ | exact hr.zS _ | exact hMz _ | exact hMz1 _ | exact zw_R _ | (unfold zR; omega)) dX4_dispatch_55 (fun h hr => ?_)
  refine v_aload_n (pc := 56) hO dX4_dispatch_56 rfl ?_
  refine v_getf (pc := 57) (v := sref (ad 0)) hO cp_X4 0 q2125 hr.ob (by decide) rfl dX4_dispatch_57 ?_
  refine v_iload (pc := 60) hO dX4_dispatch_60 rfl ?_
  refine v_iconst (pc := 62) hO dX4_dispatch_62 ?_
  refine v_callS (pc := 63) hO (m_orderAt (M 4) 4) (lw_S q2249 q2250 q117 q2251) yo_X4_orderAt rfl rfl (by decide) (by decide) (k2 := 0) (n2 := 0) (by decide) (by decide) (by decide) (by decide) dX4_dispatch_63 (fun va hv hp hf1 => ?_)
  obtain ⟨rfl, rfl⟩ := hp
  refine v_aload_n (pc := 66) hO dX4_dispatch_66 rfl ?_
  refine v_callV (pc := 67) (b := am) hO cp_X4 hr.ob (m_turnNow hr) (lw_V q2264 q2266 qs41 q117 q2267) yo_X4_turnNow rfl rfl rfl (by decide) (by decide) (k2 := 0) (n2 := 0) (by decide) (by decide) (by decide) (by decide) dX4_dispatch_67 (fun va hv hp hf1 => ?_)
  obtain ⟨rfl, rfl⟩ := hp
  refine v_ttop (w := M 5) ((zupd_n (by omega)).trans ((zupd_n (by omega)).trans ((zupd_n (by omega)).trans (zupd_n (by omega))))) ?_
  refine r_iast (pc := 70) (Ar2 := (rA Ar 0 (zupd (zupd (zupd (zupd (zupd M (64 + 10 * (M 4) + 0) u) (64 + 10 * (M 4) + 1) x) (64 + 10 * (M 4) + 2) y) (64 + 10 * (M 4) + 3) 0) (64 + 10 * (M 4) + 4) (M 5)))) (L := 3934) hO hr hA 0 ri_0 rfl (rA_rA _ _ _ _) (by omega) (by omega) (by first | assumption | exact hr.zA 0 _ | exact hr.zA 8 _ | exact hr.zA 9 _ | exact hr.zS _ | exact hMz _ | exact hMz1 _ | exact zw_R _ | (unfold zR; omega)) dX4_dispatch_70 (fun h hr => ?_)
  refine v_aload_n (pc := 71) hO dX4_dispatch_71 rfl ?_
  refine v_getf (pc := 72) (v := sref (ad 0)) hO cp_X4 0 q2125 hr.ob (by decide) rfl dX4_dispatch_72 ?_
  refine v_iload (pc := 75) hO dX4_dispatch_75 rfl ?_
  refine v_iconst (pc := 77) hO dX4_dispatch_77 ?_
  refine v_callS (pc := 78) hO (m_orderAt (M 4) 5) (lw_S q2249 q2250 q117 q2251) yo_X4_orderAt rfl rfl (by decide) (by decide) (k2 := 0) (n2 := 0) (by decide) (by decide) (by decide) (by decide) dX4_dispatch_78 (fun va hv hp hf1 => ?_)
  obtain ⟨rfl, rfl⟩ := hp
  refine v_iconst (pc := 81) hO dX4_dispatch_81 ?_
  refine r_iast (pc := 82) (Ar2 := (rA Ar 0 (zupd (zupd (zupd (zupd (zupd (zupd M (64 + 10 * (M 4) + 0) u) (64 + 10 * (M 4) + 1) x) (64 + 10 * (M 4) + 2) y) (64 + 10 * (M 4) + 3) 0) (64 + 10 * (M 4) + 4) (M 5)) (64 + 10 * (M 4) + 5) ((-1))))) (L := 3934) hO hr hA 0 ri_0 rfl (rA_rA _ _ _ _) (by omega) (by omega) (by first | assumption | exact hr.zA 0 _ | exact hr.zA 8 _ | exact hr.zA 9 _ | exact hr.zS _ | exact hMz _ | exact hMz1 _ | exact zw_R _ | (unfold zR; omega)) dX4_dispatch_82 (fun h hr => ?_)
  refine v_aload_n (pc := 83) hO dX4_dispatch_83 rfl ?_
  refine v_getf (pc := 84) (v := sref (ad 0)) hO cp_X4 0 q2125 hr.ob (by decide) rfl dX4_dispatch_84 ?_
  refine v_iload (pc := 87) hO dX4_dispatch_87 rfl ?_
  refine v_bipush (pc := 89) hO dX4_dispatch_89 (by decide +kernel) ?_
  refine v_callS (pc := 91) hO (m_orderAt (M 4) 6) (lw_S q2249 q2250 q117 q2251) yo_X4_orderAt rfl rfl (by decide) (by decide) (k2 := 0) (n2 := 0) (by decide) (by decide) (by decide) (by decide) dX4_dispatch_91 (fun va hv hp hf1 => ?_)
  obtain ⟨rfl, rfl⟩ := hp
  refine v_iconst (pc := 94) hO dX4_dispatch_94 ?_
  refine r_iast (pc := 95) (Ar2 := (rA Ar 0 (zupd (zupd (zupd (zupd (zupd (zupd (zupd M (64 + 10 * (M 4) + 0) u) (64 + 10 * (M 4) + 1) x) (64 + 10 * (M 4) + 2) y) (64 + 10 * (M 4) + 3) 0) (64 + 10 * (M 4) + 4) (M 5)) (64 + 10 * (M 4) + 5) ((-1))) (64 + 10 * (M 4) + 6) ((-1))))) (L := 3934) hO hr hA 0 ri_0 rfl (rA_rA _ _ _ _) (by omega) (by omega) (by first | assumption | exact hr.zA 0 _ | exact hr.zA 8 _ | exact hr.zA 9 _ | exact hr.zS _ | exact hMz _ | exact hMz1 _ | exact zw_R _ | (unfold zR; omega)) dX4_dispatch_95 (fun h hr => ?_)
  refine v_aload_n (pc := 96) hO dX4_dispatch_96 rfl ?_
  refine v_getf (pc := 97) (v := sref (ad 0)) hO cp_X4 0 q2125 hr.ob (by decide) rfl dX4_dispatch_97 ?_
  refine v_iload (pc := 100) hO dX4_dispatch_100 rfl ?_
  refine v_bipush (pc := 102) hO dX4_dispatch_102 (by decide +kernel) ?_
  refine v_callS (pc := 104) hO (m_orderAt (M 4) 7) (lw_S q2249 q2250 q117 q2251) yo_X4_orderAt rfl rfl (by decide) (by decide) (k2 := 0) (n2 := 0) (by decide) (by decide) (by decide) (by decide) dX4_dispatch_104 (fun va hv hp hf1 => ?_)
  obtain ⟨rfl, rfl⟩ := hp
  refine v_aload_n (pc := 107) hO dX4_dispatch_107 rfl ?_
  refine v_getf (pc := 108) (v := sref (ad 0)) hO cp_X4 0 q2125 hr.ob (by decide) rfl dX4_dispatch_108 ?_
  refine v_bipush (pc := 111) hO dX4_dispatch_111 (by decide +kernel) ?_
  refine r_iald (pc := 113) (w := M 10) (L := 3934) hO hr 0 ri_0 rfl ((zupd_n (by omega)).trans ((zupd_n (by omega)).trans ((zupd_n (by omega)).trans ((zupd_n (by omega)).trans ((zupd_n (by omega)).trans ((zupd_n (by omega)).trans (zupd_n (by omega)))))))) (by omega) (by omega) dX4_dispatch_113 ?_
  refine r_iast (pc := 114) (Ar2 := (rA Ar 0 (zupd (zupd (zupd (zupd (zupd (zupd (zupd (zupd M (64 + 10 * (M 4) + 0) u) (64 + 10 * (M 4) + 1) x) (64 + 10 * (M 4) + 2) y) (64 + 10 * (M 4) + 3) 0) (64 + 10 * (M 4) + 4) (M 5)) (64 + 10 * (M 4) + 5) ((-1))) (64 + 10 * (M 4) + 6) ((-1))) (64 + 10 * (M 4) + 7) (M 10)))) (L := 3934) hO hr hA 0 ri_0 rfl (rA_rA _ _ _ _) (by omega) (by omega) (by first | assumption | exact hr.zA 0 _ | exact hr.zA 8 _ | exact hr.zA 9 _ | exact hr.zS _ | exact hMz _ | exact hMz1 _ | exact zw_R _ | (unfold zR; omega)) dX4_dispatch_114 (fun h hr => ?_)
  refine v_aload_n (pc := 115) hO dX4_dispatch_115 rfl ?_
  refine v_getf (pc := 116) (v := sref (ad 0)) hO cp_X4 0 q2125 hr.ob (by decide) rfl dX4_dispatch_116 ?_
  refine v_iload (pc := 119) hO dX4_dispatch_119 rfl ?_
  refine v_bipush (pc := 121) hO dX4_dispatch_121 (by decide +kernel) ?_
  refine v_callS (pc := 123) hO (m_orderAt (M 4) 8) (lw_S q2249 q2250 q117 q2251) yo_X4_orderAt rfl rfl (by decide) (by decide) (k2 := 0) (n2 := 0) (by decide) (by decide) (by decide) (by decide) dX4_dispatch_123 (fun va hv hp hf1 => ?_)
  obtain ⟨rfl, rfl⟩ := hp
  refine v_aload_n (pc := 126) hO dX4_dispatch_126 rfl ?_
  refine v_getf (pc := 127) (v := sref (ad 0)) hO cp_X4 0 q2125 hr.ob (by decide) rfl dX4_dispatch_127 ?_
  refine v_bipush (pc := 130) hO dX4_dispatch_130 (by decide +kernel) ?_
  refine r_iald (pc := 132) (w := M 11) (L := 3934) hO hr 0 ri_0 rfl ((zupd_n (by omega)).trans ((zupd_n (by omega)).trans ((zupd_n (by omega)).trans ((zupd_n (by omega)).trans ((zupd_n (by omega)).trans ((zupd_n (by omega)).trans ((zupd_n (by omega)).trans (zupd_n (by omega))))))))) (by omega) (by omega) dX4_dispatch_132 ?_
  refine r_iast (pc := 133) (Ar2 := (rA Ar 0 (zupd (zupd (zupd (zupd (zupd (zupd (zupd (zupd (zupd M (64 + 10 * (M 4) + 0) u) (64 + 10 * (M 4) + 1) x) (64 + 10 * (M 4) + 2) y) (64 + 10 * (M 4) + 3) 0) (64 + 10 * (M 4) + 4) (M 5)) (64 + 10 * (M 4) + 5) ((-1))) (64 + 10 * (M 4) + 6) ((-1))) (64 + 10 * (M 4) + 7) (M 10)) (64 + 10 * (M 4) + 8) (M 11)))) (L := 3934) hO hr hA 0 ri_0 rfl (rA_rA _ _ _ _) (by omega) (by omega) (by first | assumption | exact hr.zA 0 _ | exact hr.zA 8 _ | exact hr.zA 9 _ | exact hr.zS _ | exact hMz _ | exact hMz1 _ | exact zw_R _ | (unfold zR; omega)) dX4_dispatch_133 (fun h hr => ?_)
  refine v_aload_n (pc := 134) hO dX4_dispatch_134 rfl ?_
  refine v_getf (pc := 135) (v := sref (ad 0)) hO cp_X4 0 q2125 hr.ob (by decide) rfl dX4_dispatch_135 ?_
  refine v_iload (pc := 138) hO dX4_dispatch_138 rfl ?_
  refine v_bipush (pc := 140) hO dX4_dispatch_140 (by decide +kernel) ?_
  refine v_callS (pc := 142) hO (m_orderAt (M 4) 9) (lw_S q2249 q2250 q117 q2251) yo_X4_orderAt rfl rfl (by decide) (by decide) (k2 := 0) (n2 := 0) (by decide) (by decide) (by decide) (by decide) dX4_dispatch_142 (fun va hv hp hf1 => ?_)
  obtain ⟨rfl, rfl⟩ := hp
  refine v_iconst (pc := 145) hO dX4_dispatch_145 ?_
  refine r_iast (pc := 146) (Ar2 := (rA Ar 0 (zupd (zupd (zupd (zupd (zupd (zupd (zupd (zupd (zupd (zupd M (64 + 10 * (M 4) + 0) u) (64 + 10 * (M 4) + 1) x) (64 + 10 * (M 4) + 2) y) (64 + 10 * (M 4) + 3) 0) (64 + 10 * (M 4) + 4) (M 5)) (64 + 10 * (M 4) + 5) ((-1))) (64 + 10 * (M 4) + 6) ((-1))) (64 + 10 * (M 4) + 7) (M 10)) (64 + 10 * (M 4) + 8) (M 11)) (64 + 10 * (M 4) + 9) 0))) (L := 3934) hO hr hA 0 ri_0 rfl (rA_rA _ _ _ _) (by omega) (by omega) (by first | assumption | exact hr.zA 0 _ | exact hr.zA 8 _ | exact hr.zA 9 _ | exact hr.zS _ | exact hMz _ | exact hMz1 _ | exact zw_R _ | (unfold zR; omega)) dX4_dispatch_146 (fun h hr => ?_)
  refine v_aload_n (pc := 147) hO dX4_dispatch_147 rfl ?_
  refine v_getf (pc := 148) (v := sref (ad 0)) hO cp_X4 0 q2125 hr.ob (by decide) rfl dX4_dispatch_148 ?_
  refine v_iconst (pc := 151) hO dX4_dispatch_151 ?_
  refine v_dup2 (pc := 152) hO dX4_dispatch_152 rfl rfl ?_
  refine r_iald (pc := 153) (w := M 4) (L := 3934) hO hr 0 ri_0 rfl ((zupd_n (by omega)).trans ((zupd_n (by omega)).trans ((zupd_n (by omega)).trans ((zupd_n (by omega)).trans ((zupd_n (by omega)).trans ((zupd_n (by omega)).trans ((zupd_n (by omega)).trans ((zupd_n (by omega)).trans ((zupd_n (by omega)).trans (zupd_n (by omega))))))))))) (by omega) (by omega) dX4_dispatch_153 ?_
  refine v_iconst (pc := 154) hO dX4_dispatch_154 ?_
  refine v_iadd (pc := 155) hO dX4_dispatch_155 ?_
  refine r_iast (pc := 156) (Ar2 := (rA Ar 0 (zupd (zupd (zupd (zupd (zupd (zupd (zupd (zupd (zupd (zupd (zupd M (64 + 10 * (M 4) + 0) u) (64 + 10 * (M 4) + 1) x) (64 + 10 * (M 4) + 2) y) (64 + 10 * (M 4) + 3) 0) (64 + 10 * (M 4) + 4) (M 5)) (64 + 10 * (M 4) + 5) ((-1))) (64 + 10 * (M 4) + 6) ((-1))) (64 + 10 * (M 4) + 7) (M 10)) (64 + 10 * (M 4) + 8) (M 11)) (64 + 10 * (M 4) + 9) 0) 4 (M 4 + 1)))) (L := 3934) hO hr hA 0 ri_0 rfl (rA_rA _ _ _ _) (by omega) (by omega) (by first | assumption | exact hr.zA 0 _ | exact hr.zA 8 _ | exact hr.zA 9 _ | exact hr.zS _ | exact hMz _ | exact hMz1 _ | exact zw_R _ | (unfold zR; omega)) dX4_dispatch_156 (fun h hr => ?_)
  exact v_vret hO dX4_dispatch_157 rfl (Nat.le_of_ble_eq_true rfl) (Nat.le_of_ble_eq_true rfl) ⟨rfl, hr⟩
theorem yo_X4_arrive : yOK yX4_arrive 1 := by unfold yOK; exact ⟨by decide +kernel, by decide +kernel, by decide +kernel⟩
set_option maxRecDepth 100000 in
theorem m_arrive {G : GT} {h : AH} {am : Nat} {ad : Nat → Nat} {nmf : Int → Option Nat} {S : Nat → Int} {Ar : Nat → Int → Int} {M : Int → Int} (hr : RefAt G h am ad nmf S (rA Ar 0 M)) {A : Nat → Prop} (hA : ∀ q, RA am ad q → A q) (o : Int) (h1 : 0 ≤ o) (h2 : o < 40) (hu : inb (M (64 + 10 * o + 0)) 0 5) (hn : inb (M 4) 0 40) (h3 : 0 ≤ M 7) (h4 : M 7 + 2 ≤ 80) : CC G yX4_arrive cX4_arrive 4 (none) ({ frames := 4, cells := 0, slots := 0, locals := 77 } : Room) A [sref am, .inl o] h (fun v h1 => v = none ∧ RefAt G h1 am ad nmf S (rA Ar 0 (arrM M o))) := by
  refine CC.of (by decide +kernel) [(0, sref am), (1, .inl o)] rfl (Nat.le_of_ble_eq_true rfl) (fun X hnm hO => ?_)
  have hMz : ∀ z, zR (M z) := fun z => hr.zA 0 z
  refine v_aload_n (pc := 0) hO dX4_arrive_0 rfl ?_
  refine v_iload_n (pc := 1) hO dX4_arrive_1 rfl ?_
  refine v_iconst (pc := 2) hO dX4_arrive_2 ?_
  refine v_callV (pc := 3) (b := am) hO cp_X4 hr.ob (m_ofOrder hr o 0 (by omega) (by omega)) (lw_V q2245 q2247 qs38 q117 q2248) yo_X4_ofOrder rfl rfl rfl (by decide) (by decide) (k2 := 0) (n2 := 0) (by decide) (by decide) (by decide) (by decide) dX4_arrive_3 (fun va hv hp hf1 => ?_)
  obtain ⟨rfl, rfl⟩ := hp
  refine v_istore_n (pc := 6) hO (lv' := [(2, .inl (M (64 + 10 * o + 0))), (0, sref am), (1, .inl o)]) dX4_arrive_6 (by decide) rfl ?_
  refine v_aload_n (pc := 7) hO dX4_arrive_7 rfl ?_
  refine v_getf (pc := 8) (v := sref (ad 0)) hO cp_X4 0 q2125 hr.ob (by decide) rfl dX4_arrive_8 ?_
  refine v_iload_n (pc := 11) hO dX4_arrive_11 rfl ?_
  refine v_iconst (pc := 12) hO dX4_arrive_12 ?_
  refine v_callS (pc := 13) hO (m_orderAt o 5) (lw_S q2249 q2250 q117 q2251) yo_X4_orderAt rfl rfl (by decide) (by decide) (k2 := 0) (n2 := 0) (by decide) (by decide) (by decide) (by decide) dX4_arrive_13 (fun va hv hp hf1 => ?_)
  obtain ⟨rfl, rfl⟩ := hp
  refine v_aload_n (pc := 16) hO dX4_arrive_16 rfl ?_
  refine v_callV (pc := 17) (b := am) hO cp_X4 hr.ob (m_turnNow hr) (lw_V q2264 q2266 qs41 q117 q2267) yo_X4_turnNow rfl rfl rfl (by decide) (by decide) (k2 := 0) (n2 := 0) (by decide) (by decide) (by decide) (by decide) dX4_arrive_17 (fun va hv hp hf1 => ?_)
  obtain ⟨rfl, rfl⟩ := hp
  refine r_iast (pc := 20) (Ar2 := (rA Ar 0 (zupd M (64 + 10 * o + 5) (M 5)))) (L := 3934) hO hr hA 0 ri_0 rfl (rA_rA _ _ _ _) (by omega) (by omega) (by first | assumption | exact hr.zA 0 _ | exact hr.zA 8 _ | exact hr.zA 9 _ | exact hr.zS _ | exact hMz _ | exact hMz1 _ | exact zw_R _ | (unfold zR; omega)) dX4_arrive_20 (fun h hr => ?_)
  obtain ⟨M1, eM1⟩ : ∃ z, z = arvM M o := ⟨_, rfl⟩
  have hr : RefAt G _ am ad nmf S (rA Ar 0 M1) := (by rw [eM1]; exact hr)
  have e7 : M1 7 = M 7 := (by rw [eM1]; exact zupd_n (by omega))
  have e4 : M1 4 = M 4 := (by rw [eM1]; exact zupd_n (by omega))
  have eu : M1 (12 + 4 * M (64 + 10 * o + 0) + 3) = M (12 + 4 * M (64 + 10 * o + 0) + 3) := (by rw [eM1]; exact zupd_n (by omega))
  have hb := obyM_in M1 (M (64 + 10 * o + 0)) (by omega)
  refine v_aload_n (pc := 21) hO dX4_arrive_21 rfl ?_
  refine v_iload_n (pc := 22) hO dX4_arrive_22 rfl ?_
  refine v_iconst (pc := 23) hO dX4_arrive_23 ?_
  refine v_callV (pc := 24) (b := am) hO cp_X4 hr.ob (m_ofUnit hr (M (64 + 10 * o + 0)) 3 (by omega) (by omega)) (lw_V q2234 q2236 qs36 q117 q2237) yo_X4_ofUnit rfl rfl rfl (by decide) (by decide) (k2 := 0) (n2 := 0) (by decide) (by decide) (by decide) (by decide) dX4_arrive_24 (fun va hv hp hf1 => ?_)
  obtain ⟨rfl, rfl⟩ := hp
  refine v_iload_n (pc := 27) hO dX4_arrive_27 rfl ?_
  refine v_icmp_le (pc := 28) (tgt := 38) hO dX4_arrive_28 (by decide) (by first | assumption | exact hr.zA 0 _ | exact hr.zA 8 _ | exact hr.zA 9 _ | exact hr.zS _ | exact hMz _ | exact hMz1 _ | exact zw_R _ | (unfold zR; omega)) (by first | assumption | exact hr.zA 0 _ | exact hr.zA 8 _ | exact hr.zA 9 _ | exact hr.zS _ | exact hMz _ | exact hMz1 _ | exact zw_R _ | (unfold zR; omega)) (fun c28 => ?_) (fun c28 => ?_)
  · refine v_aload_n (pc := 38) hO dX4_arrive_38 rfl ?_
    refine v_iload_n (pc := 39) hO dX4_arrive_39 rfl ?_
    refine v_callV (pc := 40) (b := am) hO cp_X4 hr.ob (m_obeyedBy hr (M (64 + 10 * o + 0)) (by first | assumption | exact hr.zA 0 _ | exact hr.zA 8 _ | exact hr.zA 9 _ | exact hr.zS _ | exact hMz _ | exact hMz1 _ | (unfold zR; omega)) (by omega)) (lw_V q2241 q2243 qs37 q117 q2244) yo_X4_obeyedBy rfl rfl rfl (by decide) (by decide) (k2 := 0) (n2 := 0) (by decide) (by decide) (by decide) (by decide) dX4_arrive_40 (fun va hv hp hf1 => ?_)
    obtain ⟨rfl, rfl⟩ := hp
    refine v_istore_n (pc := 43) hO (lv' := [(3, .inl (obyM M1 (M (64 + 10 * o + 0)))), (2, .inl (M (64 + 10 * o + 0))), (0, sref am), (1, .inl o)]) dX4_arrive_43 (by decide) rfl ?_
    have hbz : zR (obyM M1 (M (64 + 10 * o + 0))) := (by unfold zR; omega)
    refine v_iload_n (pc := 44) hO dX4_arrive_44 rfl ?_
    refine v_iconst (pc := 45) hO dX4_arrive_45 ?_
    refine v_icmp_eq (pc := 46) (tgt := 56) hO dX4_arrive_46 (by decide) (by first | assumption | exact hr.zA 0 _ | exact hr.zA 8 _ | exact hr.zA 9 _ | exact hr.zS _ | exact hMz _ | exact hMz1 _ | exact zw_R _ | (unfold zR; omega)) (by first | assumption | exact hr.zA 0 _ | exact hr.zA 8 _ | exact hr.zA 9 _ | exact hr.zS _ | exact hMz _ | exact hMz1 _ | exact zw_R _ | (unfold zR; omega)) (fun c46 => ?_) (fun c46 => ?_)
    · obtain ⟨M2, eM2⟩ : ∃ z, z = reqM M1 (M (64 + 10 * o + 0)) := ⟨_, rfl⟩
      have eR : reqM M1 (M (64 + 10 * o + 0)) = M1 := if_pos (by omega)
      have hr : RefAt G _ am ad nmf S (rA Ar 0 M2) := (by rw [eM2, eR]; exact hr)
      have e77 : M2 7 ≤ M 7 + 1 ∧ M 7 ≤ M2 7 := (by rw [eM2, eR]; omega)
      refine v_aload_n (pc := 56) hO dX4_arrive_56 rfl ?_
      refine v_iload_n (pc := 57) hO dX4_arrive_57 rfl ?_
      refine v_iconst (pc := 58) hO dX4_arrive_58 ?_
      refine v_callV (pc := 59) (b := am) hO cp_X4 hr.ob (m_become hr hA o 1 (by omega) (by omega) (by unfold zR; omega) (by omega) (by omega)) (lw_V q2415 q2417 qs62 q117 q2418) yo_X4_become rfl rfl rfl (by decide) (by decide) (k2 := 0) (n2 := 0) (by decide) (by decide) (by decide) (by decide) dX4_arrive_59 (fun va hv hp hf1 => ?_)
      obtain ⟨rfl, hr⟩ := hp
      refine v_aload_n (pc := 62) hO dX4_arrive_62 rfl ?_
      refine v_getf (pc := 63) (v := sref (ad 0)) hO cp_X4 0 q2125 hr.ob (by decide) rfl dX4_arrive_63 ?_
      refine v_iload_n (pc := 66) hO dX4_arrive_66 rfl ?_
      refine v_iconst (pc := 67) hO dX4_arrive_67 ?_
      refine v_callS (pc := 68) hO (m_unitAt (M (64 + 10 * o + 0)) 3) (lw_S q2238 q2239 q117 q2240) yo_X4_unitAt rfl rfl (by decide) (by decide) (k2 := 0) (n2 := 0) (by decide) (by decide) (by decide) (by decide) dX4_arrive_68 (fun va hv hp hf1 => ?_)
      obtain ⟨rfl, rfl⟩ := hp
      refine v_iload_n (pc := 71) hO dX4_arrive_71 rfl ?_
      refine r_iast (pc := 72) (Ar2 := (rA Ar 0 (zupd (becM M2 o 1) (12 + 4 * (M (64 + 10 * o + 0)) + 3) o))) (L := 3934) hO hr hA 0 ri_0 rfl (rA_rA _ _ _ _) (by omega) (by omega) (by first | assumption | exact hr.zA 0 _ | exact hr.zA 8 _ | exact hr.zA 9 _ | exact hr.zS _ | exact hMz _ | exact hMz1 _ | exact zw_R _ | (unfold zR; omega)) dX4_arrive_72 (fun h hr => ?_)
      have eM : arrM M o = zupd (becM M2 o 1) (12 + 4 * (M (64 + 10 * o + 0)) + 3) o := (by unfold arrM; rw [if_neg (by omega), ← eM1, ← eM2])
      have hr : RefAt G _ am ad nmf S (rA Ar 0 (arrM M o)) := (by rw [eM]; exact hr)
      exact v_vret hO dX4_arrive_73 rfl (Nat.le_of_ble_eq_true rfl) (Nat.le_of_ble_eq_true rfl) ⟨rfl, hr⟩
    · refine v_aload_n (pc := 49) hO dX4_arrive_49 rfl ?_
      refine v_iload_n (pc := 50) hO dX4_arrive_50 rfl ?_
      refine v_bipush (pc := 51) hO dX4_arrive_51 (by decide +kernel) ?_
      refine v_callV (pc := 53) (b := am) hO cp_X4 hr.ob (m_become hr hA (obyM M1 (M (64 + 10 * o + 0))) 6 (by omega) (by omega) (by unfold zR; omega) (by omega) (by omega)) (lw_V q2415 q2417 qs62 q117 q2418) yo_X4_become rfl rfl rfl (by decide) (by decide) (k2 := 0) (n2 := 0) (by decide) (by decide) (by decide) (by decide) dX4_arrive_53 (fun va hv hp hf1 => ?_)
      obtain ⟨rfl, hr⟩ := hp
      obtain ⟨M2, eM2⟩ : ∃ z, z = reqM M1 (M (64 + 10 * o + 0)) := ⟨_, rfl⟩
      have eR : reqM M1 (M (64 + 10 * o + 0)) = becM M1 (obyM M1 (M (64 + 10 * o + 0))) 6 := if_neg (by omega)
      have hr : RefAt G _ am ad nmf S (rA Ar 0 M2) := (by rw [eM2, eR]; exact hr)
      have e77 : M2 7 ≤ M 7 + 1 ∧ M 7 ≤ M2 7 := (by rw [eM2, eR]; rw [becM_7 (by omega) (by omega)]; omega)
      refine v_aload_n (pc := 56) hO dX4_arrive_56 rfl ?_
      refine v_iload_n (pc := 57) hO dX4_arrive_57 rfl ?_
      refine v_iconst (pc := 58) hO dX4_arrive_58 ?_
      refine v_callV (pc := 59) (b := am) hO cp_X4 hr.ob (m_become hr hA o 1 (by omega) (by omega) (by unfold zR; omega) (by omega) (by omega)) (lw_V q2415 q2417 qs62 q117 q2418) yo_X4_become rfl rfl rfl (by decide) (by decide) (k2 := 0) (n2 := 0) (by decide) (by decide) (by decide) (by decide) dX4_arrive_59 (fun va hv hp hf1 => ?_)
      obtain ⟨rfl, hr⟩ := hp
      refine v_aload_n (pc := 62) hO dX4_arrive_62 rfl ?_
      refine v_getf (pc := 63) (v := sref (ad 0)) hO cp_X4 0 q2125 hr.ob (by decide) rfl dX4_arrive_63 ?_
      refine v_iload_n (pc := 66) hO dX4_arrive_66 rfl ?_
      refine v_iconst (pc := 67) hO dX4_arrive_67 ?_
      refine v_callS (pc := 68) hO (m_unitAt (M (64 + 10 * o + 0)) 3) (lw_S q2238 q2239 q117 q2240) yo_X4_unitAt rfl rfl (by decide) (by decide) (k2 := 0) (n2 := 0) (by decide) (by decide) (by decide) (by decide) dX4_arrive_68 (fun va hv hp hf1 => ?_)
      obtain ⟨rfl, rfl⟩ := hp
      refine v_iload_n (pc := 71) hO dX4_arrive_71 rfl ?_
      refine r_iast (pc := 72) (Ar2 := (rA Ar 0 (zupd (becM M2 o 1) (12 + 4 * (M (64 + 10 * o + 0)) + 3) o))) (L := 3934) hO hr hA 0 ri_0 rfl (rA_rA _ _ _ _) (by omega) (by omega) (by first | assumption | exact hr.zA 0 _ | exact hr.zA 8 _ | exact hr.zA 9 _ | exact hr.zS _ | exact hMz _ | exact hMz1 _ | exact zw_R _ | (unfold zR; omega)) dX4_arrive_72 (fun h hr => ?_)
      have eM : arrM M o = zupd (becM M2 o 1) (12 + 4 * (M (64 + 10 * o + 0)) + 3) o := (by unfold arrM; rw [if_neg (by omega), ← eM1, ← eM2])
      have hr : RefAt G _ am ad nmf S (rA Ar 0 (arrM M o)) := (by rw [eM]; exact hr)
      exact v_vret hO dX4_arrive_73 rfl (Nat.le_of_ble_eq_true rfl) (Nat.le_of_ble_eq_true rfl) ⟨rfl, hr⟩
  · refine v_aload_n (pc := 31) hO dX4_arrive_31 rfl ?_
    refine v_iload_n (pc := 32) hO dX4_arrive_32 rfl ?_
    refine v_iconst (pc := 33) hO dX4_arrive_33 ?_
    refine v_callV (pc := 34) (b := am) hO cp_X4 hr.ob (m_become hr hA o 3 (by omega) (by omega) (by unfold zR; omega) (by omega) (by omega)) (lw_V q2415 q2417 qs62 q117 q2418) yo_X4_become rfl rfl rfl (by decide) (by decide) (k2 := 0) (n2 := 0) (by decide) (by decide) (by decide) (by decide) dX4_arrive_34 (fun va hv hp hf1 => ?_)
    obtain ⟨rfl, hr⟩ := hp
    have eM : arrM M o = becM M1 o 3 := (by rw [eM1]; exact if_pos (by omega))
    have hr : RefAt G _ am ad nmf S (rA Ar 0 (arrM M o)) := (by rw [eM]; exact hr)
    exact v_vret hO dX4_arrive_37 rfl (Nat.le_of_ble_eq_true rfl) (Nat.le_of_ble_eq_true rfl) ⟨rfl, hr⟩
theorem yo_X4_ride : yOK yX4_ride 1 := by unfold yOK; exact ⟨by decide +kernel, by decide +kernel, by decide +kernel⟩
set_option maxRecDepth 100000 in
theorem m_ride {G : GT} {h : AH} {am : Nat} {ad : Nat → Nat} {nmf : Int → Option Nat} {S : Nat → Int} {Ar : Nat → Int → Int} {M : Int → Int} (hr : RefAt G h am ad nmf S (rA Ar 0 M)) {A : Nat → Prop} (hA : ∀ q, RA am ad q → A q) (o : Int) (hd : dimM M) (h1 : 0 ≤ o) (h2 : o < 40) (hu : inb (M (64 + 10 * o + 0)) 0 5) (hat : freM M (M (64 + 10 * o + 7)) (M (64 + 10 * o + 8))) (hpics : picsB M) (hn : inb (M 4) 0 40) (h3 : 0 ≤ M 7) (h4 : M 7 + 2 ≤ 80) (h5 : 0 ≤ M 5) : CC G yX4_ride cX4_ride 4 (some .boolean) ({ frames := 5, cells := 0, slots := 0, locals := 103 } : Room) A [sref am, .inl o] h (fun v h1 => v = some (.inl (b2i (decide (ridB M (Ar 8) o)))) ∧ RefAt G h1 am ad nmf S (rA Ar 0 (ridM M (Ar 8) o))) := by
  refine CC.of (by decide +kernel) [(0, sref am), (1, .inl o)] rfl (Nat.le_of_ble_eq_true rfl) (fun X hnm hO => ?_)
  have hMz : ∀ z, zR (M z) := fun z => hr.zA 0 z
  refine v_aload_n (pc := 0) hO dX4_ride_0 rfl ?_
  refine v_aload_n (pc := 1) hO dX4_ride_1 rfl ?_
  refine v_iload_n (pc := 2) hO dX4_ride_2 rfl ?_
  refine v_bipush (pc := 3) hO dX4_ride_3 (by decide +kernel) ?_
  refine v_callV (pc := 5) (b := am) hO cp_X4 hr.ob (m_ofOrder hr o 7 (by omega) (by omega)) (lw_V q2245 q2247 qs38 q117 q2248) yo_X4_ofOrder rfl rfl rfl (by decide) (by decide) (k2 := 0) (n2 := 0) (by decide) (by decide) (by decide) (by decide) dX4_ride_5 (fun va hv hp hf1 => ?_)
  obtain ⟨rfl, rfl⟩ := hp
  refine v_aload_n (pc := 8) hO dX4_ride_8 rfl ?_
  refine v_iload_n (pc := 9) hO dX4_ride_9 rfl ?_
  refine v_bipush (pc := 10) hO dX4_ride_10 (by decide +kernel) ?_
  refine v_callV (pc := 12) (b := am) hO cp_X4 hr.ob (m_ofOrder hr o 8 (by omega) (by omega)) (lw_V q2245 q2247 qs38 q117 q2248) yo_X4_ofOrder rfl rfl rfl (by decide) (by decide) (k2 := 0) (n2 := 0) (by decide) (by decide) (by decide) (by decide) dX4_ride_12 (fun va hv hp hf1 => ?_)
  obtain ⟨rfl, rfl⟩ := hp
  refine v_callV (pc := 15) (b := am) hO cp_X4 hr.ob (m_stepFrom hr (M (64 + 10 * o + 7)) (M (64 + 10 * o + 8)) (by omega) (by omega) hd) (lw_V q2357 q2359 qs53 q117 q2360) yo_X4_stepFrom rfl rfl rfl (by decide) (by decide) (k2 := 0) (n2 := 0) (by decide) (by decide) (by decide) (by decide) dX4_ride_15 (fun va hv hp hf1 => ?_)
  obtain ⟨rfl, rfl⟩ := hp
  obtain ⟨d, ed⟩ : ∃ z, z = rdD M (Ar 8) o := ⟨_, rfl⟩
  refine v_ttop (w := d) (show _ = d from ed.symm) ?_
  have hd4 : d = -1 ∨ (0 ≤ d ∧ d < 4 ∧ freM M (M (64 + 10 * o + 7) + dX d) (M (64 + 10 * o + 8) + dY d)) := (by rw [ed]; exact stpM_in _ _ _ _)
  have hdz : zR d := (by unfold zR; omega)
  refine v_istore_n (pc := 18) hO (lv' := [(2, .inl d), (0, sref am), (1, .inl o)]) dX4_ride_18 (by decide) rfl ?_
  refine v_iload_n (pc := 19) hO dX4_ride_19 rfl ?_
  refine v_iconst (pc := 20) hO dX4_ride_20 ?_
  refine v_icmp_ne (pc := 21) (tgt := 26) hO dX4_ride_21 (by decide) (by first | assumption | exact hr.zA 0 _ | exact hr.zA 8 _ | exact hr.zA 9 _ | exact hr.zS _ | exact hMz _ | exact hMz1 _ | exact zw_R _ | (unfold zR; omega)) (by first | assumption | exact hr.zA 0 _ | exact hr.zA 8 _ | exact hr.zA 9 _ | exact hr.zS _ | exact hMz _ | exact hMz1 _ | exact zw_R _ | (unfold zR; omega)) (fun c21 => ?_) (fun c21 => ?_)
  · have e1 := dX_R d
    have e2 := dY_R d
    have hfr := (hd4.resolve_left (by omega)).2.2
    refine v_aload_n (pc := 26) hO dX4_ride_26 rfl ?_
    refine v_getf (pc := 27) (v := sref (ad 0)) hO cp_X4 0 q2125 hr.ob (by decide) rfl dX4_ride_27 ?_
    refine v_iload_n (pc := 30) hO dX4_ride_30 rfl ?_
    refine v_bipush (pc := 31) hO dX4_ride_31 (by decide +kernel) ?_
    refine v_callS (pc := 33) hO (m_orderAt o 7) (lw_S q2249 q2250 q117 q2251) yo_X4_orderAt rfl rfl (by decide) (by decide) (k2 := 0) (n2 := 0) (by decide) (by decide) (by decide) (by decide) dX4_ride_33 (fun va hv hp hf1 => ?_)
    obtain ⟨rfl, rfl⟩ := hp
    refine v_dup2 (pc := 36) hO dX4_ride_36 rfl rfl ?_
    refine r_iald (pc := 37) (w := M (64 + 10 * o + 7)) (L := 3934) hO hr 0 ri_0 rfl rfl (by omega) (by omega) dX4_ride_37 ?_
    refine v_iload_n (pc := 38) hO dX4_ride_38 rfl ?_
    refine v_iconst (pc := 39) hO dX4_ride_39 ?_
    refine v_callS (pc := 40) hO (m_besideX d (by first | assumption | exact hr.zA 0 _ | exact hr.zA 8 _ | exact hr.zA 9 _ | exact hr.zS _ | exact hMz _ | exact hMz1 _ | (unfold zR; omega))) (lw_S q2350 q2351 q117 q2352) yo_X4_beside rfl rfl (by decide) (by decide) (k2 := 0) (n2 := 0) (by decide) (by decide) (by decide) (by decide) dX4_ride_40 (fun va hv hp hf1 => ?_)
    obtain ⟨rfl, rfl⟩ := hp
    refine v_iadd (pc := 43) hO dX4_ride_43 ?_
    refine r_iast (pc := 44) (Ar2 := (rA Ar 0 (zupd M (64 + 10 * o + 7) (M (64 + 10 * o + 7) + (dX d))))) (L := 3934) hO hr hA 0 ri_0 rfl (rA_rA _ _ _ _) (by omega) (by omega) (by first | assumption | exact hr.zA 0 _ | exact hr.zA 8 _ | exact hr.zA 9 _ | exact hr.zS _ | exact hMz _ | exact hMz1 _ | exact zw_R _ | (unfold zR; omega)) dX4_ride_44 (fun h hr => ?_)
    refine v_aload_n (pc := 45) hO dX4_ride_45 rfl ?_
    refine v_getf (pc := 46) (v := sref (ad 0)) hO cp_X4 0 q2125 hr.ob (by decide) rfl dX4_ride_46 ?_
    refine v_iload_n (pc := 49) hO dX4_ride_49 rfl ?_
    refine v_bipush (pc := 50) hO dX4_ride_50 (by decide +kernel) ?_
    refine v_callS (pc := 52) hO (m_orderAt o 8) (lw_S q2249 q2250 q117 q2251) yo_X4_orderAt rfl rfl (by decide) (by decide) (k2 := 0) (n2 := 0) (by decide) (by decide) (by decide) (by decide) dX4_ride_52 (fun va hv hp hf1 => ?_)
    obtain ⟨rfl, rfl⟩ := hp
    refine v_dup2 (pc := 55) hO dX4_ride_55 rfl rfl ?_
    refine r_iald (pc := 56) (w := M (64 + 10 * o + 8)) (L := 3934) hO hr 0 ri_0 rfl (zupd_n (by omega)) (by omega) (by omega) dX4_ride_56 ?_
    refine v_iload_n (pc := 57) hO dX4_ride_57 rfl ?_
    refine v_iconst (pc := 58) hO dX4_ride_58 ?_
    refine v_callS (pc := 59) hO (m_besideY d (by first | assumption | exact hr.zA 0 _ | exact hr.zA 8 _ | exact hr.zA 9 _ | exact hr.zS _ | exact hMz _ | exact hMz1 _ | (unfold zR; omega))) (lw_S q2350 q2351 q117 q2352) yo_X4_beside rfl rfl (by decide) (by decide) (k2 := 0) (n2 := 0) (by decide) (by decide) (by decide) (by decide) dX4_ride_59 (fun va hv hp hf1 => ?_)
    obtain ⟨rfl, rfl⟩ := hp
    refine v_iadd (pc := 62) hO dX4_ride_62 ?_
    refine r_iast (pc := 63) (Ar2 := (rA Ar 0 (zupd (zupd M (64 + 10 * o + 7) (M (64 + 10 * o + 7) + (dX d))) (64 + 10 * o + 8) (M (64 + 10 * o + 8) + (dY d))))) (L := 3934) hO hr hA 0 ri_0 rfl (rA_rA _ _ _ _) (by omega) (by omega) (by first | assumption | exact hr.zA 0 _ | exact hr.zA 8 _ | exact hr.zA 9 _ | exact hr.zS _ | exact hMz _ | exact hMz1 _ | exact zw_R _ | (unfold zR; omega)) dX4_ride_63 (fun h hr => ?_)
    refine v_aload_n (pc := 64) hO dX4_ride_64 rfl ?_
    refine v_getf (pc := 65) (v := sref (ad 0)) hO cp_X4 0 q2125 hr.ob (by decide) rfl dX4_ride_65 ?_
    refine v_iload_n (pc := 68) hO dX4_ride_68 rfl ?_
    refine v_bipush (pc := 69) hO dX4_ride_69 (by decide +kernel) ?_
    refine v_callS (pc := 71) hO (m_orderAt o 9) (lw_S q2249 q2250 q117 q2251) yo_X4_orderAt rfl rfl (by decide) (by decide) (k2 := 0) (n2 := 0) (by decide) (by decide) (by decide) (by decide) dX4_ride_71 (fun va hv hp hf1 => ?_)
    obtain ⟨rfl, rfl⟩ := hp
    refine v_dup2 (pc := 74) hO dX4_ride_74 rfl rfl ?_
    refine r_iald (pc := 75) (w := M (64 + 10 * o + 9)) (L := 3934) hO hr 0 ri_0 rfl ((zupd_n (by omega)).trans (zupd_n (by omega))) (by omega) (by omega) dX4_ride_75 ?_
    refine v_iconst (pc := 76) hO dX4_ride_76 ?_
    refine v_iadd (pc := 77) hO dX4_ride_77 ?_
    refine v_topw (w := zw (M (64 + 10 * o + 9) + 1)) (zi_zw _).symm ?_
    refine r_iast (pc := 78) (Ar2 := (rA Ar 0 (zupd (zupd (zupd M (64 + 10 * o + 7) (M (64 + 10 * o + 7) + (dX d))) (64 + 10 * o + 8) (M (64 + 10 * o + 8) + (dY d))) (64 + 10 * o + 9) (zw (M (64 + 10 * o + 9) + 1))))) (L := 3934) hO hr hA 0 ri_0 rfl (rA_rA _ _ _ _) (by omega) (by omega) (by first | assumption | exact hr.zA 0 _ | exact hr.zA 8 _ | exact hr.zA 9 _ | exact hr.zS _ | exact hMz _ | exact hMz1 _ | exact zw_R _ | (unfold zR; omega)) dX4_ride_78 (fun h hr => ?_)
    obtain ⟨M1, eM1⟩ : ∃ z, z = stpA M o d := ⟨_, rfl⟩
    have hr : RefAt G _ am ad nmf S (rA Ar 0 M1) := (by rw [eM1]; exact hr)
    have k3 : M1 3 = M 3 := (by rw [eM1]; exact stpA_n (by omega) (by omega) (by omega))
    have k4 : M1 4 = M 4 := (by rw [eM1]; exact stpA_n (by omega) (by omega) (by omega))
    have k5 : M1 5 = M 5 := (by rw [eM1]; exact stpA_n (by omega) (by omega) (by omega))
    have k7 : M1 7 = M 7 := (by rw [eM1]; exact stpA_n (by omega) (by omega) (by omega))
    have ku : M1 (64 + 10 * o + 0) = M (64 + 10 * o + 0) := (by rw [eM1]; exact stpA_n (by omega) (by omega) (by omega))
    have kx : M1 (64 + 10 * o + 7) = M (64 + 10 * o + 7) + dX d := (by rw [eM1]; exact stpA_7 _ _ _)
    have ky : M1 (64 + 10 * o + 8) = M (64 + 10 * o + 8) + dY d := (by rw [eM1]; exact stpA_8 _ _ _)
    have hpics : picsB M1 := picsB_eq hpics k3 (fun z z0 z1 _ => by rw [eM1]; exact stpA_n (by omega) (by omega) (by omega))
    have hw4 := wchM_in M1 (M1 (64 + 10 * o + 7)) (M1 (64 + 10 * o + 8)) (M1 5) hpics.1
    have hp3 := hpics.1
    have hMz1 : ∀ z, zR (M1 z) := fun z => hr.zA 0 z
    refine v_aload_n (pc := 79) hO dX4_ride_79 rfl ?_
    refine v_aload_n (pc := 80) hO dX4_ride_80 rfl ?_
    refine v_iload_n (pc := 81) hO dX4_ride_81 rfl ?_
    refine v_bipush (pc := 82) hO dX4_ride_82 (by decide +kernel) ?_
    refine v_callV (pc := 84) (b := am) hO cp_X4 hr.ob (m_ofOrder hr o 7 (by omega) (by omega)) (lw_V q2245 q2247 qs38 q117 q2248) yo_X4_ofOrder rfl rfl rfl (by decide) (by decide) (k2 := 0) (n2 := 0) (by decide) (by decide) (by decide) (by decide) dX4_ride_84 (fun va hv hp hf1 => ?_)
    obtain ⟨rfl, rfl⟩ := hp
    refine v_aload_n (pc := 87) hO dX4_ride_87 rfl ?_
    refine v_iload_n (pc := 88) hO dX4_ride_88 rfl ?_
    refine v_bipush (pc := 89) hO dX4_ride_89 (by decide +kernel) ?_
    refine v_callV (pc := 91) (b := am) hO cp_X4 hr.ob (m_ofOrder hr o 8 (by omega) (by omega)) (lw_V q2245 q2247 qs38 q117 q2248) yo_X4_ofOrder rfl rfl rfl (by decide) (by decide) (k2 := 0) (n2 := 0) (by decide) (by decide) (by decide) (by decide) dX4_ride_91 (fun va hv hp hf1 => ?_)
    obtain ⟨rfl, rfl⟩ := hp
    refine v_aload_n (pc := 94) hO dX4_ride_94 rfl ?_
    refine v_callV (pc := 95) (b := am) hO cp_X4 hr.ob (m_turnNow hr) (lw_V q2264 q2266 qs41 q117 q2267) yo_X4_turnNow rfl rfl rfl (by decide) (by decide) (k2 := 0) (n2 := 0) (by decide) (by decide) (by decide) (by decide) dX4_ride_95 (fun va hv hp hf1 => ?_)
    obtain ⟨rfl, rfl⟩ := hp
    refine v_callV (pc := 98) (b := am) hO cp_X4 hr.ob (m_watcher hr (M1 (64 + 10 * o + 7)) (M1 (64 + 10 * o + 8)) (M1 5) (by omega) (by omega) (by omega) (by first | assumption | exact hr.zA 0 _ | exact hr.zA 8 _ | exact hr.zA 9 _ | exact hr.zS _ | exact hMz _ | exact hMz1 _ | (unfold zR; omega)) hpics) (lw_V q2329 q2331 qs49 q117 q2332) yo_X4_watcher rfl rfl rfl (by decide) (by decide) (k2 := 0) (n2 := 0) (by decide) (by decide) (by decide) (by decide) dX4_ride_98 (fun va hv hp hf1 => ?_)
    obtain ⟨rfl, rfl⟩ := hp
    obtain ⟨w, ew⟩ : ∃ z, z = wchM M1 (M1 (64 + 10 * o + 7)) (M1 (64 + 10 * o + 8)) (M1 5) := ⟨_, rfl⟩
    refine v_ttop (w := w) (show _ = w from ew.symm) ?_
    rw [← ew] at hw4
    have hwz : zR w := (by unfold zR; omega)
    refine v_istore_n (pc := 101) hO (lv' := [(3, .inl w), (2, .inl d), (0, sref am), (1, .inl o)]) dX4_ride_101 (by decide) rfl ?_
    refine v_iload_n (pc := 102) hO dX4_ride_102 rfl ?_
    refine v_iconst (pc := 103) hO dX4_ride_103 ?_
    refine v_icmp_eq (pc := 104) (tgt := 131) hO dX4_ride_104 (by decide) (by first | assumption | exact hr.zA 0 _ | exact hr.zA 8 _ | exact hr.zA 9 _ | exact hr.zS _ | exact hMz _ | exact hMz1 _ | exact zw_R _ | (unfold zR; omega)) (by first | assumption | exact hr.zA 0 _ | exact hr.zA 8 _ | exact hr.zA 9 _ | exact hr.zS _ | exact hMz _ | exact hMz1 _ | exact zw_R _ | (unfold zR; omega)) (fun c104 => ?_) (fun c104 => ?_)
    · refine v_aload_n (pc := 131) hO dX4_ride_131 rfl ?_
      refine v_iload_n (pc := 132) hO dX4_ride_132 rfl ?_
      refine v_callV (pc := 133) (b := am) hO cp_X4 hr.ob (m_isThere hr o (by omega) (by omega) (by omega)) (lw_V q2407 q2409 qs60 q117 q2410) yo_X4_isThere rfl rfl rfl (by decide) (by decide) (k2 := 0) (n2 := 0) (by decide) (by decide) (by decide) (by decide) dX4_ride_133 (fun va hv hp hf1 => ?_)
      obtain ⟨rfl, rfl⟩ := hp
      refine v_ifb_eq (pc := 136) (tgt := 144) hO dX4_ride_136 (by decide) (fun c136 => ?_) (fun c136 => ?_)
      · obtain ⟨M3, eM3⟩ : ∃ z, z = metM M1 o := ⟨_, rfl⟩
        have eq3 : metM M1 o = M1 := (by unfold metM; rw [← ew, if_pos (by omega), if_neg (by assumption)])
        have hr : RefAt G _ am ad nmf S (rA Ar 0 M3) := (by rw [eM3, eq3]; exact hr)
        have eR : ridM M (Ar 8) o = M3 := (by unfold ridM; rw [← ed, if_neg (by omega), ← eM1, ← eM3])
        refine v_aload_n (pc := 144) hO dX4_ride_144 rfl ?_
        refine v_iload_n (pc := 145) hO dX4_ride_145 rfl ?_
        refine v_iconst (pc := 146) hO dX4_ride_146 ?_
        refine v_callV (pc := 147) (b := am) hO cp_X4 hr.ob (m_ofOrder hr o 3 (by omega) (by omega)) (lw_V q2245 q2247 qs38 q117 q2248) yo_X4_ofOrder rfl rfl rfl (by decide) (by decide) (k2 := 0) (n2 := 0) (by decide) (by decide) (by decide) (by decide) dX4_ride_147 (fun va hv hp hf1 => ?_)
        obtain ⟨rfl, rfl⟩ := hp
        refine v_if_ne (pc := 150) (tgt := 157) hO dX4_ride_150 (by decide) (by first | assumption | exact hr.zA 0 _ | exact hr.zA 8 _ | exact hr.zA 9 _ | exact hr.zS _ | exact hMz _ | exact hMz1 _ | exact zw_R _ | (unfold zR; omega)) (fun c150 => ?_) (fun c150 => ?_)
        · refine v_iconst (pc := 157) hO dX4_ride_157 ?_
          exact v_zret hO dX4_ride_158 rfl (by decide +kernel) (Nat.le_of_ble_eq_true rfl) (Nat.le_of_ble_eq_true rfl) ⟨congrArg (fun z => some (Sum.inl z)) (b2i_f (fun e9 => absurd e9.2 (by rw [eR]; omega))).symm, (by rw [eR]; exact hr)⟩
        · refine v_iconst (pc := 153) hO dX4_ride_153 ?_
          refine v_goto (pc := 154) (tgt := 158) hO dX4_ride_154 (by decide) ?_
          exact v_zret hO dX4_ride_158 rfl (by decide +kernel) (Nat.le_of_ble_eq_true rfl) (Nat.le_of_ble_eq_true rfl) ⟨congrArg (fun z => some (Sum.inl z)) (b2i_t ⟨(by rw [← ed]; omega), (by rw [eR]; omega)⟩).symm, (by rw [eR]; exact hr)⟩
      · refine v_aload_n (pc := 139) hO dX4_ride_139 rfl ?_
        refine v_iload_n (pc := 140) hO dX4_ride_140 rfl ?_
        refine v_callV (pc := 141) (b := am) hO cp_X4 hr.ob (m_arrive hr hA o (by omega) (by omega) (by omega) (by omega) (by omega) (by omega)) (lw_V q2411 q2413 qs61 q117 q2414) yo_X4_arrive rfl rfl rfl (by decide) (by decide) (k2 := 0) (n2 := 0) (by decide) (by decide) (by decide) (by decide) dX4_ride_141 (fun va hv hp hf1 => ?_)
        obtain ⟨rfl, hr⟩ := hp
        obtain ⟨M3, eM3⟩ : ∃ z, z = metM M1 o := ⟨_, rfl⟩
        have eq3 : metM M1 o = arrM M1 o := (by unfold metM; rw [← ew, if_pos (by omega), if_pos (by assumption)])
        have hr : RefAt G _ am ad nmf S (rA Ar 0 M3) := (by rw [eM3, eq3]; exact hr)
        have eR : ridM M (Ar 8) o = M3 := (by unfold ridM; rw [← ed, if_neg (by omega), ← eM1, ← eM3])
        refine v_aload_n (pc := 144) hO dX4_ride_144 rfl ?_
        refine v_iload_n (pc := 145) hO dX4_ride_145 rfl ?_
        refine v_iconst (pc := 146) hO dX4_ride_146 ?_
        refine v_callV (pc := 147) (b := am) hO cp_X4 hr.ob (m_ofOrder hr o 3 (by omega) (by omega)) (lw_V q2245 q2247 qs38 q117 q2248) yo_X4_ofOrder rfl rfl rfl (by decide) (by decide) (k2 := 0) (n2 := 0) (by decide) (by decide) (by decide) (by decide) dX4_ride_147 (fun va hv hp hf1 => ?_)
        obtain ⟨rfl, rfl⟩ := hp
        refine v_if_ne (pc := 150) (tgt := 157) hO dX4_ride_150 (by decide) (by first | assumption | exact hr.zA 0 _ | exact hr.zA 8 _ | exact hr.zA 9 _ | exact hr.zS _ | exact hMz _ | exact hMz1 _ | exact zw_R _ | (unfold zR; omega)) (fun c150 => ?_) (fun c150 => ?_)
        · refine v_iconst (pc := 157) hO dX4_ride_157 ?_
          exact v_zret hO dX4_ride_158 rfl (by decide +kernel) (Nat.le_of_ble_eq_true rfl) (Nat.le_of_ble_eq_true rfl) ⟨congrArg (fun z => some (Sum.inl z)) (b2i_f (fun e9 => absurd e9.2 (by rw [eR]; omega))).symm, (by rw [eR]; exact hr)⟩
        · refine v_iconst (pc := 153) hO dX4_ride_153 ?_
          refine v_goto (pc := 154) (tgt := 158) hO dX4_ride_154 (by decide) ?_
          exact v_zret hO dX4_ride_158 rfl (by decide +kernel) (Nat.le_of_ble_eq_true rfl) (Nat.le_of_ble_eq_true rfl) ⟨congrArg (fun z => some (Sum.inl z)) (b2i_t ⟨(by rw [← ed]; omega), (by rw [eR]; omega)⟩).symm, (by rw [eR]; exact hr)⟩
    · refine v_aload_n (pc := 107) hO dX4_ride_107 rfl ?_
      refine v_getf (pc := 108) (v := sref (ad 0)) hO cp_X4 0 q2125 hr.ob (by decide) rfl dX4_ride_108 ?_
      refine v_iload_n (pc := 111) hO dX4_ride_111 rfl ?_
      refine v_bipush (pc := 112) hO dX4_ride_112 (by decide +kernel) ?_
      refine v_callS (pc := 114) hO (m_picketAt w 6) (lw_S q2276 q2277 q117 q2278) yo_X4_picketAt rfl rfl (by decide) (by decide) (k2 := 0) (n2 := 0) (by decide) (by decide) (by decide) (by decide) dX4_ride_114 (fun va hv hp hf1 => ?_)
      obtain ⟨rfl, rfl⟩ := hp
      refine v_dup2 (pc := 117) hO dX4_ride_117 rfl rfl ?_
      refine r_iald (pc := 118) (w := M1 (36 + 7 * w + 6)) (L := 3934) hO hr 0 ri_0 rfl rfl (by omega) (by omega) dX4_ride_118 ?_
      refine v_iconst (pc := 119) hO dX4_ride_119 ?_
      refine v_iadd (pc := 120) hO dX4_ride_120 ?_
      refine v_topw (w := zw (M1 (36 + 7 * w + 6) + 1)) (zi_zw _).symm ?_
      refine r_iast (pc := 121) (Ar2 := (rA Ar 0 (zupd M1 (36 + 7 * w + 6) (zw (M1 (36 + 7 * w + 6) + 1))))) (L := 3934) hO hr hA 0 ri_0 rfl (rA_rA _ _ _ _) (by omega) (by omega) (by first | assumption | exact hr.zA 0 _ | exact hr.zA 8 _ | exact hr.zA 9 _ | exact hr.zS _ | exact hMz _ | exact hMz1 _ | exact zw_R _ | (unfold zR; omega)) dX4_ride_121 (fun h hr => ?_)
      obtain ⟨M2, eM2⟩ : ∃ z, z = zupd M1 (36 + 7 * w + 6) (zw (M1 (36 + 7 * w + 6) + 1)) := ⟨_, rfl⟩
      have hr : RefAt G _ am ad nmf S (rA Ar 0 M2) := (by rw [eM2]; exact hr)
      have k27 : M2 7 = M1 7 := (by rw [eM2]; exact zupd_n (by omega))
      refine v_aload_n (pc := 122) hO dX4_ride_122 rfl ?_
      refine v_iload_n (pc := 123) hO dX4_ride_123 rfl ?_
      refine v_iconst (pc := 124) hO dX4_ride_124 ?_
      refine v_callV (pc := 125) (b := am) hO cp_X4 hr.ob (m_become hr hA o 5 (by omega) (by omega) (by unfold zR; omega) (by omega) (by omega)) (lw_V q2415 q2417 qs62 q117 q2418) yo_X4_become rfl rfl rfl (by decide) (by decide) (k2 := 0) (n2 := 0) (by decide) (by decide) (by decide) (by decide) dX4_ride_125 (fun va hv hp hf1 => ?_)
      obtain ⟨rfl, hr⟩ := hp
      refine v_goto (pc := 128) (tgt := 144) hO dX4_ride_128 (by decide) ?_
      obtain ⟨M3, eM3⟩ : ∃ z, z = metM M1 o := ⟨_, rfl⟩
      have eq3 : metM M1 o = becM M2 o 5 := (by unfold metM; rw [← ew, if_neg (by omega)]; unfold cauM; rw [← eM2])
      have hr : RefAt G _ am ad nmf S (rA Ar 0 M3) := (by rw [eM3, eq3]; exact hr)
      have eR : ridM M (Ar 8) o = M3 := (by unfold ridM; rw [← ed, if_neg (by omega), ← eM1, ← eM3])
      refine v_aload_n (pc := 144) hO dX4_ride_144 rfl ?_
      refine v_iload_n (pc := 145) hO dX4_ride_145 rfl ?_
      refine v_iconst (pc := 146) hO dX4_ride_146 ?_
      refine v_callV (pc := 147) (b := am) hO cp_X4 hr.ob (m_ofOrder hr o 3 (by omega) (by omega)) (lw_V q2245 q2247 qs38 q117 q2248) yo_X4_ofOrder rfl rfl rfl (by decide) (by decide) (k2 := 0) (n2 := 0) (by decide) (by decide) (by decide) (by decide) dX4_ride_147 (fun va hv hp hf1 => ?_)
      obtain ⟨rfl, rfl⟩ := hp
      refine v_if_ne (pc := 150) (tgt := 157) hO dX4_ride_150 (by decide) (by first | assumption | exact hr.zA 0 _ | exact hr.zA 8 _ | exact hr.zA 9 _ | exact hr.zS _ | exact hMz _ | exact hMz1 _ | exact zw_R _ | (unfold zR; omega)) (fun c150 => ?_) (fun c150 => ?_)
      · refine v_iconst (pc := 157) hO dX4_ride_157 ?_
        exact v_zret hO dX4_ride_158 rfl (by decide +kernel) (Nat.le_of_ble_eq_true rfl) (Nat.le_of_ble_eq_true rfl) ⟨congrArg (fun z => some (Sum.inl z)) (b2i_f (fun e9 => absurd e9.2 (by rw [eR]; omega))).symm, (by rw [eR]; exact hr)⟩
      · refine v_iconst (pc := 153) hO dX4_ride_153 ?_
        refine v_goto (pc := 154) (tgt := 158) hO dX4_ride_154 (by decide) ?_
        exact v_zret hO dX4_ride_158 rfl (by decide +kernel) (Nat.le_of_ble_eq_true rfl) (Nat.le_of_ble_eq_true rfl) ⟨congrArg (fun z => some (Sum.inl z)) (b2i_t ⟨(by rw [← ed]; omega), (by rw [eR]; omega)⟩).symm, (by rw [eR]; exact hr)⟩
  · refine v_iconst (pc := 24) hO dX4_ride_24 ?_
    exact v_zret hO dX4_ride_25 rfl (by decide +kernel) (Nat.le_of_ble_eq_true rfl) (Nat.le_of_ble_eq_true rfl) ⟨congrArg (fun z => some (Sum.inl z)) (b2i_f (fun e9 => e9.1 (ed.symm.trans (by omega)))).symm, (by rw [show ridM M (Ar 8) o = M from if_pos (ed.symm.trans (by omega))]; exact hr)⟩
theorem yo_X4_carry : yOK yX4_carry 1 := by unfold yOK; exact ⟨by decide +kernel, by decide +kernel, by decide +kernel⟩
set_option maxRecDepth 100000 in
theorem m_carry {G : GT} {h : AH} {am : Nat} {ad : Nat → Nat} {nmf : Int → Option Nat} {S : Nat → Int} {Ar : Nat → Int → Int} {M : Int → Int} (hr : RefAt G h am ad nmf S (rA Ar 0 M)) {A : Nat → Prop} (hA : ∀ q, RA am ad q → A q) (o : Int) (hB : Bq M) (h1 : 0 ≤ o) (h2 : o < M 4) (hs0 : M (64 + 10 * o + 3) = 0) : CC G yX4_carry cX4_carry 3 (none) ({ frames := 6, cells := 0, slots := 0, locals := 128 } : Room) A [sref am, .inl o] h (fun v h1 => v = none ∧ ∃ Ar2, RefAt G h1 am ad nmf S (rA Ar2 0 (carM M o)) ∧ scr Ar2 Ar) := by
  refine CC.of (by decide +kernel) [(0, sref am), (1, .inl o)] rfl (Nat.le_of_ble_eq_true rfl) (fun X hnm hO => ?_)
  have hMz : ∀ z, zR (M z) := fun z => hr.zA 0 z
  have hd := hB.hd
  have hpics := hB.pics
  have hn := hB.h4
  have h2u := hB.1.2.1
  have hu := (hB.ord h1 h2).1
  have hat := ((hB.ord h1 h2).2.2.2 hs0).1
  have hrm := hB.room h1 h2
  rw [wtM_0 hs0] at hrm
  have h5 := hB.1.2.2.2.1
  refine v_aload_n (pc := 0) hO dX4_carry_0 rfl ?_
  refine v_iload_n (pc := 1) hO dX4_carry_1 rfl ?_
  refine v_callV (pc := 2) (b := am) hO cp_X4 hr.ob (m_isThere hr o (by omega) (by omega) (by omega)) (lw_V q2407 q2409 qs60 q117 q2410) yo_X4_isThere rfl rfl rfl (by decide) (by decide) (k2 := 0) (n2 := 0) (by decide) (by decide) (by decide) (by decide) dX4_carry_2 (fun va hv hp hf1 => ?_)
  obtain ⟨rfl, rfl⟩ := hp
  refine v_ifb_eq (pc := 5) (tgt := 14) hO dX4_carry_5 (by decide) (fun c5 => ?_) (fun c5 => ?_)
  · refine v_aload_n (pc := 14) hO dX4_carry_14 rfl ?_
    refine v_iload_n (pc := 15) hO dX4_carry_15 rfl ?_
    refine v_iconst (pc := 16) hO dX4_carry_16 ?_
    refine v_callV (pc := 17) (b := am) hO cp_X4 hr.ob (m_ofOrder hr o 0 (by omega) (by omega)) (lw_V q2245 q2247 qs38 q117 q2248) yo_X4_ofOrder rfl rfl rfl (by decide) (by decide) (k2 := 0) (n2 := 0) (by decide) (by decide) (by decide) (by decide) dX4_carry_17 (fun va hv hp hf1 => ?_)
    obtain ⟨rfl, rfl⟩ := hp
    refine v_istore_n (pc := 20) hO (lv' := [(2, .inl (M (64 + 10 * o + 0))), (0, sref am), (1, .inl o)]) dX4_carry_20 (by decide) rfl ?_
    refine v_aload_n (pc := 21) hO dX4_carry_21 rfl ?_
    refine v_aload_n (pc := 22) hO dX4_carry_22 rfl ?_
    refine v_iload_n (pc := 23) hO dX4_carry_23 rfl ?_
    refine v_iconst (pc := 24) hO dX4_carry_24 ?_
    refine v_callV (pc := 25) (b := am) hO cp_X4 hr.ob (m_ofUnit hr (M (64 + 10 * o + 0)) 0 (by omega) (by omega)) (lw_V q2234 q2236 qs36 q117 q2237) yo_X4_ofUnit rfl rfl rfl (by decide) (by decide) (k2 := 0) (n2 := 0) (by decide) (by decide) (by decide) (by decide) dX4_carry_25 (fun va hv hp hf1 => ?_)
    obtain ⟨rfl, rfl⟩ := hp
    refine v_aload_n (pc := 28) hO dX4_carry_28 rfl ?_
    refine v_iload_n (pc := 29) hO dX4_carry_29 rfl ?_
    refine v_iconst (pc := 30) hO dX4_carry_30 ?_
    refine v_callV (pc := 31) (b := am) hO cp_X4 hr.ob (m_ofUnit hr (M (64 + 10 * o + 0)) 1 (by omega) (by omega)) (lw_V q2234 q2236 qs36 q117 q2237) yo_X4_ofUnit rfl rfl rfl (by decide) (by decide) (k2 := 0) (n2 := 0) (by decide) (by decide) (by decide) (by decide) dX4_carry_31 (fun va hv hp hf1 => ?_)
    obtain ⟨rfl, rfl⟩ := hp
    refine v_callV (pc := 34) (b := am) hO cp_X4 hr.ob (m_layFar hr.x89 hA (M (12 + 4 * (M (64 + 10 * o + 0)) + 0)) (M (12 + 4 * (M (64 + 10 * o + 0)) + 1)) (by first | assumption | exact hr.zA 0 _ | exact hr.zA 8 _ | exact hr.zA 9 _ | exact hr.zS _ | exact hMz _ | exact hMz1 _ | (unfold zR; omega)) (by first | assumption | exact hr.zA 0 _ | exact hr.zA 8 _ | exact hr.zA 9 _ | exact hr.zS _ | exact hMz _ | exact hMz1 _ | (unfold zR; omega)) hd) (lw_V q2342 q2344 qs51 q117 q2345) yo_X4_layFar rfl rfl rfl (by decide) (by decide) (k2 := 0) (n2 := 0) (by decide) (by decide) (by decide) (by decide) dX4_carry_34 (fun va hv hp hf1 => ?_)
    obtain ⟨rfl, hr⟩ := hp
    have hF := lay_agree hd (M (12 + 4 * (M (64 + 10 * o + 0)) + 0)) (M (12 + 4 * (M (64 + 10 * o + 0)) + 1)) (Ar 8) (Ar 9)
    have hscAr_1 := scr_89 Ar (layS M (M (12 + 4 * (M (64 + 10 * o + 0)) + 0)) (M (12 + 4 * (M (64 + 10 * o + 0)) + 1)) (Ar 8) (Ar 9)).1 (layS M (M (12 + 4 * (M (64 + 10 * o + 0)) + 0)) (M (12 + 4 * (M (64 + 10 * o + 0)) + 1)) (Ar 8) (Ar 9)).2.1
    obtain ⟨Ar_1, eAr_1⟩ : ∃ z, z = rA (rA Ar 9 (layS M (M (12 + 4 * (M (64 + 10 * o + 0)) + 0)) (M (12 + 4 * (M (64 + 10 * o + 0)) + 1)) (Ar 8) (Ar 9)).2.1) 8 (layS M (M (12 + 4 * (M (64 + 10 * o + 0)) + 0)) (M (12 + 4 * (M (64 + 10 * o + 0)) + 1)) (Ar 8) (Ar 9)).1 := ⟨_, rfl⟩
    have hF : ∀ z, 0 ≤ z → z < 144 → Ar_1 8 z = layM M (M (12 + 4 * (M (64 + 10 * o + 0)) + 0)) (M (12 + 4 * (M (64 + 10 * o + 0)) + 1)) z := fun z z0 z1 => (by rw [eAr_1]; exact hF z z0 z1)
    rw [← eAr_1] at hr hscAr_1
    refine v_aload_n (pc := 37) hO dX4_carry_37 rfl ?_
    refine v_iload_n (pc := 38) hO dX4_carry_38 rfl ?_
    refine v_callV (pc := 39) (b := am) hO cp_X4 hr.ob (m_ride hr hA o hd (by omega) (by omega) (by omega) hat hpics (by omega) (by omega) (by omega) (by omega)) (lw_V q2419 q2421 qs63 q117 q2422) yo_X4_ride rfl rfl rfl (by decide) (by decide) (k2 := 0) (n2 := 0) (by decide) (by decide) (by decide) (by decide) dX4_carry_39 (fun va hv hp hf1 => ?_)
    obtain ⟨rfl, hr⟩ := hp
    refine v_ifb_eq (pc := 42) (tgt := 51) hO dX4_carry_42 (by decide) (fun c42 => ?_) (fun c42 => ?_)
    · have hrb := c42
      exact v_vret hO dX4_carry_51 rfl (Nat.le_of_ble_eq_true rfl) (Nat.le_of_ble_eq_true rfl) ⟨rfl, _, (by rw [show carM M o = ri2M M (layM M (M (12 + 4 * M (64 + 10 * o + 0) + 0)) (M (12 + 4 * M (64 + 10 * o + 0) + 1))) o from if_neg (by assumption), ← ri2M_congr hB h1 h2 hs0 hF, show ri2M M (Ar_1 8) o = ridM M (Ar_1 8) o from if_neg hrb]; exact hr), hscAr_1⟩
    · have hrb := c42
      obtain ⟨g1, g2, g3⟩ := ridM_Bq (F := Ar_1 8) hB h1 h2 hs0
      have k4 : ridM M (Ar_1 8) o 4 = M 4 := g2 4 (by omega)
      have k5 : ridM M (Ar_1 8) o 5 = M 5 := g2 5 (by omega)
      have k2 : ridM M (Ar_1 8) o 2 = M 2 := g2 2 (by omega)
      have ho2 := g1.ord h1 (by rw [k4]; exact h2)
      have hu := ho2.1
      have hat := (ho2.2.2.2 hrb.2).1
      have hd := g1.hd
      have hpics := g1.pics
      have hrm := g1.room h1 (by rw [k4]; exact h2)
      rw [wtM_0 hrb.2] at hrm
      refine v_aload_n (pc := 45) hO dX4_carry_45 rfl ?_
      refine v_iload_n (pc := 46) hO dX4_carry_46 rfl ?_
      refine v_callV (pc := 47) (b := am) hO cp_X4 hr.ob (m_ride hr hA o hd (by omega) (by omega) (by omega) hat hpics (by omega) (by omega) (by omega) (by omega)) (lw_V q2419 q2421 qs63 q117 q2422) yo_X4_ride rfl rfl rfl (by decide) (by decide) (k2 := 0) (n2 := 0) (by decide) (by decide) (by decide) (by decide) dX4_carry_47 (fun va hv hp hf1 => ?_)
      obtain ⟨rfl, hr⟩ := hp
      refine v_pop (pc := 50) hO dX4_carry_50 rfl ?_
      
      exact v_vret hO dX4_carry_51 rfl (Nat.le_of_ble_eq_true rfl) (Nat.le_of_ble_eq_true rfl) ⟨rfl, _, (by rw [show carM M o = ri2M M (layM M (M (12 + 4 * M (64 + 10 * o + 0) + 0)) (M (12 + 4 * M (64 + 10 * o + 0) + 1))) o from if_neg (by assumption), ← ri2M_congr hB h1 h2 hs0 hF, show ri2M M (Ar_1 8) o = ridM (ridM M (Ar_1 8) o) (Ar_1 8) o from if_pos hrb]; exact hr), hscAr_1⟩
  · refine v_aload_n (pc := 8) hO dX4_carry_8 rfl ?_
    refine v_iload_n (pc := 9) hO dX4_carry_9 rfl ?_
    refine v_callV (pc := 10) (b := am) hO cp_X4 hr.ob (m_arrive hr hA o (by omega) (by omega) (by omega) (by omega) (by omega) (by omega)) (lw_V q2411 q2413 qs61 q117 q2414) yo_X4_arrive rfl rfl rfl (by decide) (by decide) (k2 := 0) (n2 := 0) (by decide) (by decide) (by decide) (by decide) dX4_carry_10 (fun va hv hp hf1 => ?_)
    obtain ⟨rfl, hr⟩ := hp
    exact v_vret hO dX4_carry_13 rfl (Nat.le_of_ble_eq_true rfl) (Nat.le_of_ble_eq_true rfl) ⟨rfl, Ar, (by rw [show carM M o = arrM M o from if_pos (by assumption)]; exact hr), scr_rf Ar⟩
theorem yo_X4_sendPlanned : yOK yX4_sendPlanned 0 := by unfold yOK; exact ⟨by decide +kernel, by decide +kernel, by decide +kernel⟩
set_option maxRecDepth 100000 in
theorem m_sendPlanned {G : GT} {h : AH} {am : Nat} {ad : Nat → Nat} {nmf : Int → Option Nat} {S : Nat → Int} {Ar : Nat → Int → Int} {M : Int → Int} (hr : RefAt G h am ad nmf S (rA Ar 0 M)) {A : Nat → Prop} (hA : ∀ q, RA am ad q → A q) (hB : Bq M) : CC G yX4_sendPlanned cX4_sendPlanned 2 (none) ({ frames := 3, cells := 0, slots := 0, locals := 57 } : Room) A [sref am] h (fun v h1 => v = none ∧ RefAt G h1 am ad nmf S (rA Ar 0 (sndM M))) := by
  refine CC.of (by decide +kernel) [(0, sref am)] rfl (Nat.le_of_ble_eq_true rfl) (fun X hnm hO => ?_)
  have hMz : ∀ z, zR (M z) := fun z => hr.zA 0 z
  have hd := hB.hd
  have h8 := hB.1.2.2.2.2.1
  have h4 := hB.h4
  have h2 := hB.1.2.1
  have h5 := hB.1.2.2.2.1
  refine v_iconst (pc := 0) hO dX4_sendPlanned_0 ?_
  refine v_istore_n (pc := 1) hO (lv' := [(1, .inl 0), (0, sref am)]) dX4_sendPlanned_1 (by decide) rfl ?_
  refine v_pick (lv2 := [(0, sref am), (1, .inl 0)]) [1, 0] rfl ?_
  refine v_loop (σ := Int × (Int → Int) × AH) (fun (p, M1, hL) => 0 ≤ p ∧ p ≤ M 8 ∧ Bq M1 ∧ cw M M1 ∧ RefAt G hL am ad nmf S (rA Ar 0 M1) ∧ sndM M = itI snd1 (M 8 - p).toNat p M1) (fun (p, M1, hL) => (M 8 - p).toNat) (fun (p, M1, hL) => hL) (fun (p, M1, hL) => [(0, sref am), (1, .inl p)]) (0, M, _) ⟨Int.le_refl _, (by omega), hB, cw.rf _, hr, rfl⟩ ?_
  rintro ⟨p, M1, hL⟩ ⟨hi0, hi1, hB, hc, hr, hg⟩ ih
  show VV X G A _ _ _ hL _ _ 2 [(0, sref am), (1, .inl p)] []
  refine v_iload_n (pc := 2) hO dX4_sendPlanned_2 rfl ?_
  have k8 := hc 8 (by omega)
  have hMz1 : ∀ z, zR (M1 z) := fun z => hr.zA 0 z
  have h41 := hB.h4
  refine v_aload_n (pc := 3) hO dX4_sendPlanned_3 rfl ?_
  refine v_getf (pc := 4) (v := sref (ad 0)) hO cp_X4 0 q2125 hr.ob (by decide) rfl dX4_sendPlanned_4 ?_
  refine v_bipush (pc := 7) hO dX4_sendPlanned_7 (by decide +kernel) ?_
  refine r_iald (pc := 9) (w := M1 8) (L := 3934) hO hr 0 ri_0 rfl rfl (by omega) (by omega) dX4_sendPlanned_9 ?_
  refine v_icmp_ge (pc := 10) (tgt := 81) hO dX4_sendPlanned_10 (by decide) (by first | assumption | exact hr.zA 0 _ | exact hr.zA 8 _ | exact hr.zA 9 _ | exact hr.zS _ | exact hMz _ | exact hMz1 _ | exact zw_R _ | (unfold zR; omega)) (by first | assumption | exact hr.zA 0 _ | exact hr.zA 8 _ | exact hr.zA 9 _ | exact hr.zS _ | exact hMz _ | exact hMz1 _ | exact zw_R _ | (unfold zR; omega)) (fun c10 => ?_) (fun c10 => ?_)
  · have hg : sndM M = M1 := hg.trans (itI_e (by omega))
    rw [← hg] at hr
    exact v_vret hO dX4_sendPlanned_81 rfl (Nat.le_of_ble_eq_true rfl) (Nat.le_of_ble_eq_true rfl) ⟨rfl, hr⟩
  · refine v_aload_n (pc := 13) hO dX4_sendPlanned_13 rfl ?_
    refine v_getf (pc := 14) (v := sref (ad 0)) hO cp_X4 0 q2125 hr.ob (by decide) rfl dX4_sendPlanned_14 ?_
    refine v_iload_n (pc := 17) hO dX4_sendPlanned_17 rfl ?_
    refine v_iconst (pc := 18) hO dX4_sendPlanned_18 ?_
    refine v_callS (pc := 19) hO (m_planAt p 3) (lw_S q2295 q2296 q117 q2297) yo_X4_planAt rfl rfl (by decide) (by decide) (k2 := 0) (n2 := 0) (by decide) (by decide) (by decide) (by decide) dX4_sendPlanned_19 (fun va hv hp hf1 => ?_)
    obtain ⟨rfl, rfl⟩ := hp
    refine r_iald (pc := 22) (w := M1 (464 + 4 * p + 3)) (L := 3934) hO hr 0 ri_0 rfl rfl (by omega) (by omega) dX4_sendPlanned_22 ?_
    refine v_aload_n (pc := 23) hO dX4_sendPlanned_23 rfl ?_
    refine v_callV (pc := 24) (b := am) hO cp_X4 hr.ob (m_turnNow hr) (lw_V q2264 q2266 qs41 q117 q2267) yo_X4_turnNow rfl rfl rfl (by decide) (by decide) (k2 := 0) (n2 := 0) (by decide) (by decide) (by decide) (by decide) dX4_sendPlanned_24 (fun va hv hp hf1 => ?_)
    obtain ⟨rfl, rfl⟩ := hp
    refine v_icmp_ne (pc := 27) (tgt := 75) hO dX4_sendPlanned_27 (by decide) (by first | assumption | exact hr.zA 0 _ | exact hr.zA 8 _ | exact hr.zA 9 _ | exact hr.zS _ | exact hMz _ | exact hMz1 _ | exact zw_R _ | (unfold zR; omega)) (by first | assumption | exact hr.zA 0 _ | exact hr.zA 8 _ | exact hr.zA 9 _ | exact hr.zS _ | exact hMz _ | exact hMz1 _ | exact zw_R _ | (unfold zR; omega)) (fun c27 => ?_) (fun c27 => ?_)
    · refine v_iinc (pc := 75) hO (lv' := [(1, .inl (p + 1)), (0, sref am)]) dX4_sendPlanned_75 rfl (by decide) rfl ?_
      refine v_goto (pc := 78) (tgt := 2) hO dX4_sendPlanned_78 (by decide) ?_
      refine v_pick (lv2 := [(0, sref am), (1, .inl ((p + 1)))]) [1, 0] rfl ?_
      exact ih (p + 1, M1, _) ⟨(by omega), (by omega), (by have q9 := (snd1_Bq hB hi0 (show p < M1 8 by omega)).1; rw [(show snd1 p M1 = M1 from if_neg (by omega))] at q9; exact q9), (hc.tr (by have q9 := (snd1_Bq hB hi0 (show p < M1 8 by omega)).2; rw [(show snd1 p M1 = M1 from if_neg (by omega))] at q9; exact q9)), hr, (hg.trans ((itI_s (by omega)).trans (by rw [(show snd1 p M1 = M1 from if_neg (by omega))])))⟩ (by show (M 8 - (p + 1)).toNat < (M 8 - p).toNat; omega)
    · refine v_aload_n (pc := 30) hO dX4_sendPlanned_30 rfl ?_
      refine v_getf (pc := 31) (v := sref (ad 0)) hO cp_X4 0 q2125 hr.ob (by decide) rfl dX4_sendPlanned_31 ?_
      refine v_iconst (pc := 34) hO dX4_sendPlanned_34 ?_
      refine r_iald (pc := 35) (w := M1 4) (L := 3934) hO hr 0 ri_0 rfl rfl (by omega) (by omega) dX4_sendPlanned_35 ?_
      refine v_bipush (pc := 36) hO dX4_sendPlanned_36 (by decide +kernel) ?_
      refine v_icmp_ge (pc := 38) (tgt := 75) hO dX4_sendPlanned_38 (by decide) (by first | assumption | exact hr.zA 0 _ | exact hr.zA 8 _ | exact hr.zA 9 _ | exact hr.zS _ | exact hMz _ | exact hMz1 _ | exact zw_R _ | (unfold zR; omega)) (by first | assumption | exact hr.zA 0 _ | exact hr.zA 8 _ | exact hr.zA 9 _ | exact hr.zS _ | exact hMz _ | exact hMz1 _ | exact zw_R _ | (unfold zR; omega)) (fun c38 => ?_) (fun c38 => ?_)
      · refine v_iinc (pc := 75) hO (lv' := [(1, .inl (p + 1)), (0, sref am)]) dX4_sendPlanned_75 rfl (by decide) rfl ?_
        refine v_goto (pc := 78) (tgt := 2) hO dX4_sendPlanned_78 (by decide) ?_
        refine v_pick (lv2 := [(0, sref am), (1, .inl ((p + 1)))]) [1, 0] rfl ?_
        exact ih (p + 1, M1, _) ⟨(by omega), (by omega), (by have q9 := (snd1_Bq hB hi0 (show p < M1 8 by omega)).1; rw [(show snd1 p M1 = M1 from if_neg (by omega))] at q9; exact q9), (hc.tr (by have q9 := (snd1_Bq hB hi0 (show p < M1 8 by omega)).2; rw [(show snd1 p M1 = M1 from if_neg (by omega))] at q9; exact q9)), hr, (hg.trans ((itI_s (by omega)).trans (by rw [(show snd1 p M1 = M1 from if_neg (by omega))])))⟩ (by show (M 8 - (p + 1)).toNat < (M 8 - p).toNat; omega)
      · refine v_aload_n (pc := 41) hO dX4_sendPlanned_41 rfl ?_
        refine v_aload_n (pc := 42) hO dX4_sendPlanned_42 rfl ?_
        refine v_getf (pc := 43) (v := sref (ad 0)) hO cp_X4 0 q2125 hr.ob (by decide) rfl dX4_sendPlanned_43 ?_
        refine v_iload_n (pc := 46) hO dX4_sendPlanned_46 rfl ?_
        refine v_iconst (pc := 47) hO dX4_sendPlanned_47 ?_
        refine v_callS (pc := 48) hO (m_planAt p 0) (lw_S q2295 q2296 q117 q2297) yo_X4_planAt rfl rfl (by decide) (by decide) (k2 := 0) (n2 := 0) (by decide) (by decide) (by decide) (by decide) dX4_sendPlanned_48 (fun va hv hp hf1 => ?_)
        obtain ⟨rfl, rfl⟩ := hp
        refine r_iald (pc := 51) (w := M1 (464 + 4 * p + 0)) (L := 3934) hO hr 0 ri_0 rfl rfl (by omega) (by omega) dX4_sendPlanned_51 ?_
        refine v_aload_n (pc := 52) hO dX4_sendPlanned_52 rfl ?_
        refine v_getf (pc := 53) (v := sref (ad 0)) hO cp_X4 0 q2125 hr.ob (by decide) rfl dX4_sendPlanned_53 ?_
        refine v_iload_n (pc := 56) hO dX4_sendPlanned_56 rfl ?_
        refine v_iconst (pc := 57) hO dX4_sendPlanned_57 ?_
        refine v_callS (pc := 58) hO (m_planAt p 1) (lw_S q2295 q2296 q117 q2297) yo_X4_planAt rfl rfl (by decide) (by decide) (k2 := 0) (n2 := 0) (by decide) (by decide) (by decide) (by decide) dX4_sendPlanned_58 (fun va hv hp hf1 => ?_)
        obtain ⟨rfl, rfl⟩ := hp
        refine r_iald (pc := 61) (w := M1 (464 + 4 * p + 1)) (L := 3934) hO hr 0 ri_0 rfl rfl (by omega) (by omega) dX4_sendPlanned_61 ?_
        refine v_aload_n (pc := 62) hO dX4_sendPlanned_62 rfl ?_
        refine v_getf (pc := 63) (v := sref (ad 0)) hO cp_X4 0 q2125 hr.ob (by decide) rfl dX4_sendPlanned_63 ?_
        refine v_iload_n (pc := 66) hO dX4_sendPlanned_66 rfl ?_
        refine v_iconst (pc := 67) hO dX4_sendPlanned_67 ?_
        refine v_callS (pc := 68) hO (m_planAt p 2) (lw_S q2295 q2296 q117 q2297) yo_X4_planAt rfl rfl (by decide) (by decide) (k2 := 0) (n2 := 0) (by decide) (by decide) (by decide) (by decide) dX4_sendPlanned_68 (fun va hv hp hf1 => ?_)
        obtain ⟨rfl, rfl⟩ := hp
        refine r_iald (pc := 71) (w := M1 (464 + 4 * p + 2)) (L := 3934) hO hr 0 ri_0 rfl rfl (by omega) (by omega) dX4_sendPlanned_71 ?_
        refine v_callV (pc := 72) (b := am) hO cp_X4 hr.ob (m_dispatch hr hA (M1 (464 + 4 * p + 0)) (M1 (464 + 4 * p + 1)) (M1 (464 + 4 * p + 2)) (by first | assumption | exact hr.zA 0 _ | exact hr.zA 8 _ | exact hr.zA 9 _ | exact hr.zS _ | exact hMz _ | exact hMz1 _ | (unfold zR; omega)) (by first | assumption | exact hr.zA 0 _ | exact hr.zA 8 _ | exact hr.zA 9 _ | exact hr.zS _ | exact hMz _ | exact hMz1 _ | (unfold zR; omega)) (by first | assumption | exact hr.zA 0 _ | exact hr.zA 8 _ | exact hr.zA 9 _ | exact hr.zS _ | exact hMz _ | exact hMz1 _ | (unfold zR; omega)) (by omega) (by omega)) (lw_V q2391 q2393 qs56 q117 q2394) yo_X4_dispatch rfl rfl rfl (by decide) (by decide) (k2 := 0) (n2 := 0) (by decide) (by decide) (by decide) (by decide) dX4_sendPlanned_72 (fun va hv hp hf1 => ?_)
        obtain ⟨rfl, hr⟩ := hp
        refine v_iinc (pc := 75) hO (lv' := [(1, .inl (p + 1)), (0, sref am)]) dX4_sendPlanned_75 rfl (by decide) rfl ?_
        refine v_goto (pc := 78) (tgt := 2) hO dX4_sendPlanned_78 (by decide) ?_
        refine v_pick (lv2 := [(0, sref am), (1, .inl ((p + 1)))]) [1, 0] rfl ?_
        exact ih (p + 1, dspM M1 (M1 (464 + 4 * p + 0)) (M1 (464 + 4 * p + 1)) (M1 (464 + 4 * p + 2)), _) ⟨(by omega), (by omega), (by have q9 := (snd1_Bq hB hi0 (show p < M1 8 by omega)).1; rw [(show snd1 p M1 = dspM M1 (M1 (464 + 4 * p + 0)) (M1 (464 + 4 * p + 1)) (M1 (464 + 4 * p + 2)) from if_pos ⟨by omega, by omega⟩)] at q9; exact q9), (hc.tr (by have q9 := (snd1_Bq hB hi0 (show p < M1 8 by omega)).2; rw [(show snd1 p M1 = dspM M1 (M1 (464 + 4 * p + 0)) (M1 (464 + 4 * p + 1)) (M1 (464 + 4 * p + 2)) from if_pos ⟨by omega, by omega⟩)] at q9; exact q9)), hr, (hg.trans ((itI_s (by omega)).trans (by rw [(show snd1 p M1 = dspM M1 (M1 (464 + 4 * p + 0)) (M1 (464 + 4 * p + 1)) (M1 (464 + 4 * p + 2)) from if_pos ⟨by omega, by omega⟩)])))⟩ (by show (M 8 - (p + 1)).toNat < (M 8 - p).toNat; omega)
theorem yo_X4_walk : yOK yX4_walk 2 := by unfold yOK; exact ⟨by decide +kernel, by decide +kernel, by decide +kernel⟩
set_option maxRecDepth 100000 in
theorem m_walk {G : GT} {h : AH} {am : Nat} {ad : Nat → Nat} {nmf : Int → Option Nat} {S : Nat → Int} {Ar : Nat → Int → Int} {M : Int → Int} (hr : RefAt G h am ad nmf S (rA Ar 0 M)) {A : Nat → Prop} (hA : ∀ q, RA am ad q → A q) (u o : Int) (hd : dimM M) (g1 : 0 ≤ u) (g2 : u < 6) (h1 : 0 ≤ o) (h2 : o < 40) (hux : inb (M (12 + 4 * u + 0)) 0 11) (huy : inb (M (12 + 4 * u + 1)) 0 11) : CC G yX4_walk cX4_walk 4 (none) ({ frames := 6, cells := 0, slots := 0, locals := 128 } : Room) A [sref am, .inl u, .inl o] h (fun v h1 => v = none ∧ ∃ Ar2, RefAt G h1 am ad nmf S (rA Ar2 0 (wlkM M u o)) ∧ scr Ar2 Ar) := by
  refine CC.of (by decide +kernel) [(0, sref am), (1, .inl u), (2, .inl o)] rfl (Nat.le_of_ble_eq_true rfl) (fun X hnm hO => ?_)
  have hMz : ∀ z, zR (M z) := fun z => hr.zA 0 z
  refine v_aload_n (pc := 0) hO dX4_walk_0 rfl ?_
  refine v_aload_n (pc := 1) hO dX4_walk_1 rfl ?_
  refine v_iload_n (pc := 2) hO dX4_walk_2 rfl ?_
  refine v_iconst (pc := 3) hO dX4_walk_3 ?_
  refine v_callV (pc := 4) (b := am) hO cp_X4 hr.ob (m_ofOrder hr o 1 (by omega) (by omega)) (lw_V q2245 q2247 qs38 q117 q2248) yo_X4_ofOrder rfl rfl rfl (by decide) (by decide) (k2 := 0) (n2 := 0) (by decide) (by decide) (by decide) (by decide) dX4_walk_4 (fun va hv hp hf1 => ?_)
  obtain ⟨rfl, rfl⟩ := hp
  refine v_aload_n (pc := 7) hO dX4_walk_7 rfl ?_
  refine v_iload_n (pc := 8) hO dX4_walk_8 rfl ?_
  refine v_iconst (pc := 9) hO dX4_walk_9 ?_
  refine v_callV (pc := 10) (b := am) hO cp_X4 hr.ob (m_ofOrder hr o 2 (by omega) (by omega)) (lw_V q2245 q2247 qs38 q117 q2248) yo_X4_ofOrder rfl rfl rfl (by decide) (by decide) (k2 := 0) (n2 := 0) (by decide) (by decide) (by decide) (by decide) dX4_walk_10 (fun va hv hp hf1 => ?_)
  obtain ⟨rfl, rfl⟩ := hp
  refine v_callV (pc := 13) (b := am) hO cp_X4 hr.ob (m_layFar hr.x89 hA (M (64 + 10 * o + 1)) (M (64 + 10 * o + 2)) (by first | assumption | exact hr.zA 0 _ | exact hr.zA 8 _ | exact hr.zA 9 _ | exact hr.zS _ | exact hMz _ | exact hMz1 _ | (unfold zR; omega)) (by first | assumption | exact hr.zA 0 _ | exact hr.zA 8 _ | exact hr.zA 9 _ | exact hr.zS _ | exact hMz _ | exact hMz1 _ | (unfold zR; omega)) hd) (lw_V q2342 q2344 qs51 q117 q2345) yo_X4_layFar rfl rfl rfl (by decide) (by decide) (k2 := 0) (n2 := 0) (by decide) (by decide) (by decide) (by decide) dX4_walk_13 (fun va hv hp hf1 => ?_)
  obtain ⟨rfl, hr⟩ := hp
  have hF := lay_agree hd (M (64 + 10 * o + 1)) (M (64 + 10 * o + 2)) (Ar 8) (Ar 9)
  have hscAr_1 := scr_89 Ar (layS M (M (64 + 10 * o + 1)) (M (64 + 10 * o + 2)) (Ar 8) (Ar 9)).1 (layS M (M (64 + 10 * o + 1)) (M (64 + 10 * o + 2)) (Ar 8) (Ar 9)).2.1
  obtain ⟨Ar_1, eAr_1⟩ : ∃ z, z = rA (rA Ar 9 (layS M (M (64 + 10 * o + 1)) (M (64 + 10 * o + 2)) (Ar 8) (Ar 9)).2.1) 8 (layS M (M (64 + 10 * o + 1)) (M (64 + 10 * o + 2)) (Ar 8) (Ar 9)).1 := ⟨_, rfl⟩
  have hF : ∀ z, 0 ≤ z → z < 144 → Ar_1 8 z = layM M (M (64 + 10 * o + 1)) (M (64 + 10 * o + 2)) z := fun z z0 z1 => (by rw [eAr_1]; exact hF z z0 z1)
  rw [← eAr_1] at hr hscAr_1
  refine v_aload_n (pc := 16) hO dX4_walk_16 rfl ?_
  refine v_aload_n (pc := 17) hO dX4_walk_17 rfl ?_
  refine v_iload_n (pc := 18) hO dX4_walk_18 rfl ?_
  refine v_iconst (pc := 19) hO dX4_walk_19 ?_
  refine v_callV (pc := 20) (b := am) hO cp_X4 hr.ob (m_ofUnit hr u 0 (by omega) (by omega)) (lw_V q2234 q2236 qs36 q117 q2237) yo_X4_ofUnit rfl rfl rfl (by decide) (by decide) (k2 := 0) (n2 := 0) (by decide) (by decide) (by decide) (by decide) dX4_walk_20 (fun va hv hp hf1 => ?_)
  obtain ⟨rfl, rfl⟩ := hp
  refine v_aload_n (pc := 23) hO dX4_walk_23 rfl ?_
  refine v_iload_n (pc := 24) hO dX4_walk_24 rfl ?_
  refine v_iconst (pc := 25) hO dX4_walk_25 ?_
  refine v_callV (pc := 26) (b := am) hO cp_X4 hr.ob (m_ofUnit hr u 1 (by omega) (by omega)) (lw_V q2234 q2236 qs36 q117 q2237) yo_X4_ofUnit rfl rfl rfl (by decide) (by decide) (k2 := 0) (n2 := 0) (by decide) (by decide) (by decide) (by decide) dX4_walk_26 (fun va hv hp hf1 => ?_)
  obtain ⟨rfl, rfl⟩ := hp
  refine v_callV (pc := 29) (b := am) hO cp_X4 hr.ob (m_stepFrom hr (M (12 + 4 * u + 0)) (M (12 + 4 * u + 1)) (by omega) (by omega) hd) (lw_V q2357 q2359 qs53 q117 q2360) yo_X4_stepFrom rfl rfl rfl (by decide) (by decide) (k2 := 0) (n2 := 0) (by decide) (by decide) (by decide) (by decide) dX4_walk_29 (fun va hv hp hf1 => ?_)
  obtain ⟨rfl, rfl⟩ := hp
  obtain ⟨d, ed⟩ : ∃ z, z = wlkD M u o := ⟨_, rfl⟩
  refine v_ttop (w := d) ((stpM_congr hd (by omega) (by omega) hF).trans ed.symm) ?_
  have hd4 : d = -1 ∨ (0 ≤ d ∧ d < 4 ∧ freM M (M (12 + 4 * u + 0) + dX d) (M (12 + 4 * u + 1) + dY d)) := (by rw [ed]; exact stpM_in _ _ _ _)
  have hdz : zR d := (by unfold zR; omega)
  refine v_istore_n (pc := 32) hO (lv' := [(3, .inl d), (0, sref am), (1, .inl u), (2, .inl o)]) dX4_walk_32 (by decide) rfl ?_
  refine v_iload_n (pc := 33) hO dX4_walk_33 rfl ?_
  refine v_iconst (pc := 34) hO dX4_walk_34 ?_
  refine v_icmp_eq (pc := 35) (tgt := 74) hO dX4_walk_35 (by decide) (by first | assumption | exact hr.zA 0 _ | exact hr.zA 8 _ | exact hr.zA 9 _ | exact hr.zS _ | exact hMz _ | exact hMz1 _ | exact zw_R _ | (unfold zR; omega)) (by first | assumption | exact hr.zA 0 _ | exact hr.zA 8 _ | exact hr.zA 9 _ | exact hr.zS _ | exact hMz _ | exact hMz1 _ | exact zw_R _ | (unfold zR; omega)) (fun c35 => ?_) (fun c35 => ?_)
  · exact v_vret hO dX4_walk_74 rfl (Nat.le_of_ble_eq_true rfl) (Nat.le_of_ble_eq_true rfl) ⟨rfl, _, (by rw [show wlkM M u o = M from if_pos (by rw [← ed]; omega)]; exact hr), hscAr_1⟩
  · have e1 := dX_R d
    have e2 := dY_R d
    have hfr := (hd4.resolve_left (by omega)).2.2
    refine v_aload_n (pc := 38) hO dX4_walk_38 rfl ?_
    refine v_getf (pc := 39) (v := sref (ad 0)) hO cp_X4 0 q2125 hr.ob (by decide) rfl dX4_walk_39 ?_
    refine v_iload_n (pc := 42) hO dX4_walk_42 rfl ?_
    refine v_iconst (pc := 43) hO dX4_walk_43 ?_
    refine v_callS (pc := 44) hO (m_unitAt u 0) (lw_S q2238 q2239 q117 q2240) yo_X4_unitAt rfl rfl (by decide) (by decide) (k2 := 0) (n2 := 0) (by decide) (by decide) (by decide) (by decide) dX4_walk_44 (fun va hv hp hf1 => ?_)
    obtain ⟨rfl, rfl⟩ := hp
    refine v_dup2 (pc := 47) hO dX4_walk_47 rfl rfl ?_
    refine r_iald (pc := 48) (w := M (12 + 4 * u + 0)) (L := 3934) hO hr 0 ri_0 rfl rfl (by omega) (by omega) dX4_walk_48 ?_
    refine v_iload_n (pc := 49) hO dX4_walk_49 rfl ?_
    refine v_iconst (pc := 50) hO dX4_walk_50 ?_
    refine v_callS (pc := 51) hO (m_besideX d (by first | assumption | exact hr.zA 0 _ | exact hr.zA 8 _ | exact hr.zA 9 _ | exact hr.zS _ | exact hMz _ | exact hMz1 _ | (unfold zR; omega))) (lw_S q2350 q2351 q117 q2352) yo_X4_beside rfl rfl (by decide) (by decide) (k2 := 0) (n2 := 0) (by decide) (by decide) (by decide) (by decide) dX4_walk_51 (fun va hv hp hf1 => ?_)
    obtain ⟨rfl, rfl⟩ := hp
    refine v_iadd (pc := 54) hO dX4_walk_54 ?_
    refine r_iast (pc := 55) (Ar2 := (rA Ar_1 0 (zupd M (12 + 4 * u + 0) (M (12 + 4 * u + 0) + (dX d))))) (L := 3934) hO hr hA 0 ri_0 rfl (rA_rA _ _ _ _) (by omega) (by omega) (by first | assumption | exact hr.zA 0 _ | exact hr.zA 8 _ | exact hr.zA 9 _ | exact hr.zS _ | exact hMz _ | exact hMz1 _ | exact zw_R _ | (unfold zR; omega)) dX4_walk_55 (fun h hr => ?_)
    refine v_aload_n (pc := 56) hO dX4_walk_56 rfl ?_
    refine v_getf (pc := 57) (v := sref (ad 0)) hO cp_X4 0 q2125 hr.ob (by decide) rfl dX4_walk_57 ?_
    refine v_iload_n (pc := 60) hO dX4_walk_60 rfl ?_
    refine v_iconst (pc := 61) hO dX4_walk_61 ?_
    refine v_callS (pc := 62) hO (m_unitAt u 1) (lw_S q2238 q2239 q117 q2240) yo_X4_unitAt rfl rfl (by decide) (by decide) (k2 := 0) (n2 := 0) (by decide) (by decide) (by decide) (by decide) dX4_walk_62 (fun va hv hp hf1 => ?_)
    obtain ⟨rfl, rfl⟩ := hp
    refine v_dup2 (pc := 65) hO dX4_walk_65 rfl rfl ?_
    refine r_iald (pc := 66) (w := M (12 + 4 * u + 1)) (L := 3934) hO hr 0 ri_0 rfl (zupd_n (by omega)) (by omega) (by omega) dX4_walk_66 ?_
    refine v_iload_n (pc := 67) hO dX4_walk_67 rfl ?_
    refine v_iconst (pc := 68) hO dX4_walk_68 ?_
    refine v_callS (pc := 69) hO (m_besideY d (by first | assumption | exact hr.zA 0 _ | exact hr.zA 8 _ | exact hr.zA 9 _ | exact hr.zS _ | exact hMz _ | exact hMz1 _ | (unfold zR; omega))) (lw_S q2350 q2351 q117 q2352) yo_X4_beside rfl rfl (by decide) (by decide) (k2 := 0) (n2 := 0) (by decide) (by decide) (by decide) (by decide) dX4_walk_69 (fun va hv hp hf1 => ?_)
    obtain ⟨rfl, rfl⟩ := hp
    refine v_iadd (pc := 72) hO dX4_walk_72 ?_
    refine r_iast (pc := 73) (Ar2 := (rA Ar_1 0 (zupd (zupd M (12 + 4 * u + 0) (M (12 + 4 * u + 0) + (dX d))) (12 + 4 * u + 1) (M (12 + 4 * u + 1) + (dY d))))) (L := 3934) hO hr hA 0 ri_0 rfl (rA_rA _ _ _ _) (by omega) (by omega) (by first | assumption | exact hr.zA 0 _ | exact hr.zA 8 _ | exact hr.zA 9 _ | exact hr.zS _ | exact hMz _ | exact hMz1 _ | exact zw_R _ | (unfold zR; omega)) dX4_walk_73 (fun h hr => ?_)
    exact v_vret hO dX4_walk_74 rfl (Nat.le_of_ble_eq_true rfl) (Nat.le_of_ble_eq_true rfl) ⟨rfl, _, (by rw [show wlkM M u o = wlkA M u (wlkD M u o) from if_neg (by rw [← ed]; omega)]; rw [← ed]; exact hr), hscAr_1⟩
theorem yo_X4_move : yOK yX4_move 1 := by unfold yOK; exact ⟨by decide +kernel, by decide +kernel, by decide +kernel⟩
set_option maxRecDepth 100000 in
theorem m_move {G : GT} {h : AH} {am : Nat} {ad : Nat → Nat} {nmf : Int → Option Nat} {S : Nat → Int} {Ar : Nat → Int → Int} {M : Int → Int} (hr : RefAt G h am ad nmf S (rA Ar 0 M)) {A : Nat → Prop} (hA : ∀ q, RA am ad q → A q) (u : Int) (hB : Bq M) (hu0 : 0 ≤ u) (hu1 : u < M 2) : CC G yX4_move cX4_move 3 (none) ({ frames := 7, cells := 0, slots := 0, locals := 151 } : Room) A [sref am, .inl u] h (fun v h1 => v = none ∧ ∃ Ar2, RefAt G h1 am ad nmf S (rA Ar2 0 (movM u M)) ∧ scr Ar2 Ar) := by
  refine CC.of (by decide +kernel) [(0, sref am), (1, .inl u)] rfl (Nat.le_of_ble_eq_true rfl) (fun X hnm hO => ?_)
  have hMz : ∀ z, zR (M z) := fun z => hr.zA 0 z
  have hd := hB.hd
  have h8 := hB.1.2.2.2.2.1
  have h4 := hB.h4
  have h2 := hB.1.2.1
  have h5 := hB.1.2.2.2.1
  have hn := hB.h4
  have hUu := hB.2.1 u hu0 hu1
  have hfu := hUu.1
  have hpc := hUu.2
  have em1 := Int.emod_nonneg (M 5) (show M (12 + 4 * u + 2) ≠ 0 by omega)
  have em2 := Int.emod_lt_of_pos (M 5) (show 0 < M (12 + 4 * u + 2) by omega)
  refine v_aload_n (pc := 0) hO dX4_move_0 rfl ?_
  refine v_iload_n (pc := 1) hO dX4_move_1 rfl ?_
  refine v_callV (pc := 2) (b := am) hO cp_X4 hr.ob (m_obeyedBy hr u (by first | assumption | exact hr.zA 0 _ | exact hr.zA 8 _ | exact hr.zA 9 _ | exact hr.zS _ | exact hMz _ | exact hMz1 _ | (unfold zR; omega)) (by omega)) (lw_V q2241 q2243 qs37 q117 q2244) yo_X4_obeyedBy rfl rfl rfl (by decide) (by decide) (k2 := 0) (n2 := 0) (by decide) (by decide) (by decide) (by decide) dX4_move_2 (fun va hv hp hf1 => ?_)
  obtain ⟨rfl, rfl⟩ := hp
  obtain ⟨o, eo1⟩ : ∃ z, z = obyM M u := ⟨_, rfl⟩
  refine v_ttop (w := o) eo1.symm ?_
  have hob := obyM_in M u hB.h4
  rw [← eo1] at hob
  have hoz : zR o := (by unfold zR; omega)
  refine v_istore_n (pc := 5) hO (lv' := [(2, .inl o), (0, sref am), (1, .inl u)]) dX4_move_5 (by decide) rfl ?_
  refine v_iload_n (pc := 6) hO dX4_move_6 rfl ?_
  refine v_iconst (pc := 7) hO dX4_move_7 ?_
  refine v_icmp_ne (pc := 8) (tgt := 12) hO dX4_move_8 (by decide) (by first | assumption | exact hr.zA 0 _ | exact hr.zA 8 _ | exact hr.zA 9 _ | exact hr.zS _ | exact hMz _ | exact hMz1 _ | exact zw_R _ | (unfold zR; omega)) (by first | assumption | exact hr.zA 0 _ | exact hr.zA 8 _ | exact hr.zA 9 _ | exact hr.zS _ | exact hMz _ | exact hMz1 _ | exact zw_R _ | (unfold zR; omega)) (fun c8 => ?_) (fun c8 => ?_)
  · have hob := hob.resolve_left (by omega)
    have hrm := hB.room hob.1 hob.2.1
    rw [wtM_1 hob.2.2.2] at hrm
    refine v_aload_n (pc := 12) hO dX4_move_12 rfl ?_
    refine v_iload_n (pc := 13) hO dX4_move_13 rfl ?_
    refine v_iload_n (pc := 14) hO dX4_move_14 rfl ?_
    refine v_callV (pc := 15) (b := am) hO cp_X4 hr.ob (m_isInGoal hr u o (by omega) (by omega) (by omega) (by omega)) (lw_V q2427 q2429 qs65 q117 q2430) yo_X4_isInGoal rfl rfl rfl (by decide) (by decide) (k2 := 0) (n2 := 0) (by decide) (by decide) (by decide) (by decide) dX4_move_15 (fun va hv hp hf1 => ?_)
    obtain ⟨rfl, rfl⟩ := hp
    refine v_ifb_ne (pc := 18) (tgt := 41) hO dX4_move_18 (by decide) (fun c18 => ?_) (fun c18 => ?_)
    · obtain ⟨M2, eM2⟩ : ∃ z, z = mvwM M u o := ⟨_, rfl⟩
      have hr : RefAt G _ am ad nmf S (rA Ar 0 M2) := (by rw [eM2, show mvwM M u o = M from if_neg (by first | (intro e9; exact absurd (by assumption) e9.1) | (intro e9; omega))]; exact hr)
      obtain ⟨g1, g2, g3⟩ := mvwM_Bq hB (u := u) (o := o) hu0 hu1
      rw [← eM2] at g1 g2 g3
      have k7 : M2 7 = M 7 := g3 7 (by omega)
      have k4 : M2 4 = M 4 := g3 4 (by omega)
      refine v_aload_n (pc := 41) hO dX4_move_41 rfl ?_
      refine v_iload_n (pc := 42) hO dX4_move_42 rfl ?_
      refine v_iload_n (pc := 43) hO dX4_move_43 rfl ?_
      refine v_callV (pc := 44) (b := am) hO cp_X4 hr.ob (m_isInGoal hr u o (by omega) (by omega) (by omega) (by omega)) (lw_V q2427 q2429 qs65 q117 q2430) yo_X4_isInGoal rfl rfl rfl (by decide) (by decide) (k2 := 0) (n2 := 0) (by decide) (by decide) (by decide) (by decide) dX4_move_44 (fun va hv hp hf1 => ?_)
      obtain ⟨rfl, rfl⟩ := hp
      refine v_ifb_eq (pc := 47) (tgt := 56) hO dX4_move_47 (by decide) (fun c47 => ?_) (fun c47 => ?_)
      · exact v_vret hO dX4_move_56 rfl (Nat.le_of_ble_eq_true rfl) (Nat.le_of_ble_eq_true rfl) ⟨rfl, _, (by rw [show movM u M = mvdM (mvwM M u (obyM M u)) u (obyM M u) from if_neg (by omega), ← eo1, ← eM2, show mvdM M2 u o = M2 from if_neg (by assumption)]; exact hr), scr_rf Ar⟩
      · refine v_aload_n (pc := 50) hO dX4_move_50 rfl ?_
        refine v_iload_n (pc := 51) hO dX4_move_51 rfl ?_
        refine v_iconst (pc := 52) hO dX4_move_52 ?_
        refine v_callV (pc := 53) (b := am) hO cp_X4 hr.ob (m_become hr hA o 2 (by omega) (by omega) (by unfold zR; omega) (by omega) (by omega)) (lw_V q2415 q2417 qs62 q117 q2418) yo_X4_become rfl rfl rfl (by decide) (by decide) (k2 := 0) (n2 := 0) (by decide) (by decide) (by decide) (by decide) dX4_move_53 (fun va hv hp hf1 => ?_)
        obtain ⟨rfl, hr⟩ := hp
        exact v_vret hO dX4_move_56 rfl (Nat.le_of_ble_eq_true rfl) (Nat.le_of_ble_eq_true rfl) ⟨rfl, _, (by rw [show movM u M = mvdM (mvwM M u (obyM M u)) u (obyM M u) from if_neg (by omega), ← eo1, ← eM2, show mvdM M2 u o = becM M2 o 2 from if_pos (by assumption)]; exact hr), scr_rf Ar⟩
    · refine v_aload_n (pc := 21) hO dX4_move_21 rfl ?_
      refine v_callV (pc := 22) (b := am) hO cp_X4 hr.ob (m_turnNow hr) (lw_V q2264 q2266 qs41 q117 q2267) yo_X4_turnNow rfl rfl rfl (by decide) (by decide) (k2 := 0) (n2 := 0) (by decide) (by decide) (by decide) (by decide) dX4_move_22 (fun va hv hp hf1 => ?_)
      obtain ⟨rfl, rfl⟩ := hp
      refine v_aload_n (pc := 25) hO dX4_move_25 rfl ?_
      refine v_iload_n (pc := 26) hO dX4_move_26 rfl ?_
      refine v_iconst (pc := 27) hO dX4_move_27 ?_
      refine v_callV (pc := 28) (b := am) hO cp_X4 hr.ob (m_ofUnit hr u 2 (by omega) (by omega)) (lw_V q2234 q2236 qs36 q117 q2237) yo_X4_ofUnit rfl rfl rfl (by decide) (by decide) (k2 := 0) (n2 := 0) (by decide) (by decide) (by decide) (by decide) dX4_move_28 (fun va hv hp hf1 => ?_)
      obtain ⟨rfl, rfl⟩ := hp
      refine v_irem (pc := 31) hO dX4_move_31 (by omega) (by first | assumption | exact hr.zA 0 _ | exact hr.zA 8 _ | exact hr.zA 9 _ | exact hr.zS _ | exact hMz _ | exact hMz1 _ | exact zw_R _ | (unfold zR; omega)) (by omega) (by first | assumption | exact hr.zA 0 _ | exact hr.zA 8 _ | exact hr.zA 9 _ | exact hr.zS _ | exact hMz _ | exact hMz1 _ | exact zw_R _ | (unfold zR; omega)) ?_
      refine v_if_ne (pc := 32) (tgt := 41) hO dX4_move_32 (by decide) (by first | assumption | exact hr.zA 0 _ | exact hr.zA 8 _ | exact hr.zA 9 _ | exact hr.zS _ | exact hMz _ | exact hMz1 _ | exact zw_R _ | (unfold zR; omega)) (fun c32 => ?_) (fun c32 => ?_)
      · obtain ⟨M2, eM2⟩ : ∃ z, z = mvwM M u o := ⟨_, rfl⟩
        have hr : RefAt G _ am ad nmf S (rA Ar 0 M2) := (by rw [eM2, show mvwM M u o = M from if_neg (by first | (intro e9; exact absurd (by assumption) e9.1) | (intro e9; omega))]; exact hr)
        obtain ⟨g1, g2, g3⟩ := mvwM_Bq hB (u := u) (o := o) hu0 hu1
        rw [← eM2] at g1 g2 g3
        have k7 : M2 7 = M 7 := g3 7 (by omega)
        have k4 : M2 4 = M 4 := g3 4 (by omega)
        refine v_aload_n (pc := 41) hO dX4_move_41 rfl ?_
        refine v_iload_n (pc := 42) hO dX4_move_42 rfl ?_
        refine v_iload_n (pc := 43) hO dX4_move_43 rfl ?_
        refine v_callV (pc := 44) (b := am) hO cp_X4 hr.ob (m_isInGoal hr u o (by omega) (by omega) (by omega) (by omega)) (lw_V q2427 q2429 qs65 q117 q2430) yo_X4_isInGoal rfl rfl rfl (by decide) (by decide) (k2 := 0) (n2 := 0) (by decide) (by decide) (by decide) (by decide) dX4_move_44 (fun va hv hp hf1 => ?_)
        obtain ⟨rfl, rfl⟩ := hp
        refine v_ifb_eq (pc := 47) (tgt := 56) hO dX4_move_47 (by decide) (fun c47 => ?_) (fun c47 => ?_)
        · exact v_vret hO dX4_move_56 rfl (Nat.le_of_ble_eq_true rfl) (Nat.le_of_ble_eq_true rfl) ⟨rfl, _, (by rw [show movM u M = mvdM (mvwM M u (obyM M u)) u (obyM M u) from if_neg (by omega), ← eo1, ← eM2, show mvdM M2 u o = M2 from if_neg (by assumption)]; exact hr), scr_rf Ar⟩
        · refine v_aload_n (pc := 50) hO dX4_move_50 rfl ?_
          refine v_iload_n (pc := 51) hO dX4_move_51 rfl ?_
          refine v_iconst (pc := 52) hO dX4_move_52 ?_
          refine v_callV (pc := 53) (b := am) hO cp_X4 hr.ob (m_become hr hA o 2 (by omega) (by omega) (by unfold zR; omega) (by omega) (by omega)) (lw_V q2415 q2417 qs62 q117 q2418) yo_X4_become rfl rfl rfl (by decide) (by decide) (k2 := 0) (n2 := 0) (by decide) (by decide) (by decide) (by decide) dX4_move_53 (fun va hv hp hf1 => ?_)
          obtain ⟨rfl, hr⟩ := hp
          exact v_vret hO dX4_move_56 rfl (Nat.le_of_ble_eq_true rfl) (Nat.le_of_ble_eq_true rfl) ⟨rfl, _, (by rw [show movM u M = mvdM (mvwM M u (obyM M u)) u (obyM M u) from if_neg (by omega), ← eo1, ← eM2, show mvdM M2 u o = becM M2 o 2 from if_pos (by assumption)]; exact hr), scr_rf Ar⟩
      · refine v_aload_n (pc := 35) hO dX4_move_35 rfl ?_
        refine v_iload_n (pc := 36) hO dX4_move_36 rfl ?_
        refine v_iload_n (pc := 37) hO dX4_move_37 rfl ?_
        refine v_callV (pc := 38) (b := am) hO cp_X4 hr.ob (m_walk hr hA u o hd (by omega) (by omega) (by omega) (by omega) (by omega) (by omega)) (lw_V q2431 q2433 qs66 q117 q2434) yo_X4_walk rfl rfl rfl (by decide) (by decide) (k2 := 0) (n2 := 0) (by decide) (by decide) (by decide) (by decide) dX4_move_38 (fun va hv hp hf1 => ?_)
        obtain ⟨rfl, Ar_1, hr, hsAr_1⟩ := hp
        obtain ⟨M2, eM2⟩ : ∃ z, z = mvwM M u o := ⟨_, rfl⟩
        have hr : RefAt G _ am ad nmf S (rA Ar_1 0 M2) := (by rw [eM2, show mvwM M u o = wlkM M u o from if_pos ⟨by assumption, by assumption⟩]; exact hr)
        obtain ⟨g1, g2, g3⟩ := mvwM_Bq hB (u := u) (o := o) hu0 hu1
        rw [← eM2] at g1 g2 g3
        have k7 : M2 7 = M 7 := g3 7 (by omega)
        have k4 : M2 4 = M 4 := g3 4 (by omega)
        refine v_aload_n (pc := 41) hO dX4_move_41 rfl ?_
        refine v_iload_n (pc := 42) hO dX4_move_42 rfl ?_
        refine v_iload_n (pc := 43) hO dX4_move_43 rfl ?_
        refine v_callV (pc := 44) (b := am) hO cp_X4 hr.ob (m_isInGoal hr u o (by omega) (by omega) (by omega) (by omega)) (lw_V q2427 q2429 qs65 q117 q2430) yo_X4_isInGoal rfl rfl rfl (by decide) (by decide) (k2 := 0) (n2 := 0) (by decide) (by decide) (by decide) (by decide) dX4_move_44 (fun va hv hp hf1 => ?_)
        obtain ⟨rfl, rfl⟩ := hp
        refine v_ifb_eq (pc := 47) (tgt := 56) hO dX4_move_47 (by decide) (fun c47 => ?_) (fun c47 => ?_)
        · exact v_vret hO dX4_move_56 rfl (Nat.le_of_ble_eq_true rfl) (Nat.le_of_ble_eq_true rfl) ⟨rfl, _, (by rw [show movM u M = mvdM (mvwM M u (obyM M u)) u (obyM M u) from if_neg (by omega), ← eo1, ← eM2, show mvdM M2 u o = M2 from if_neg (by assumption)]; exact hr), hsAr_1⟩
        · refine v_aload_n (pc := 50) hO dX4_move_50 rfl ?_
          refine v_iload_n (pc := 51) hO dX4_move_51 rfl ?_
          refine v_iconst (pc := 52) hO dX4_move_52 ?_
          refine v_callV (pc := 53) (b := am) hO cp_X4 hr.ob (m_become hr hA o 2 (by omega) (by omega) (by unfold zR; omega) (by omega) (by omega)) (lw_V q2415 q2417 qs62 q117 q2418) yo_X4_become rfl rfl rfl (by decide) (by decide) (k2 := 0) (n2 := 0) (by decide) (by decide) (by decide) (by decide) dX4_move_53 (fun va hv hp hf1 => ?_)
          obtain ⟨rfl, hr⟩ := hp
          exact v_vret hO dX4_move_56 rfl (Nat.le_of_ble_eq_true rfl) (Nat.le_of_ble_eq_true rfl) ⟨rfl, _, (by rw [show movM u M = mvdM (mvwM M u (obyM M u)) u (obyM M u) from if_neg (by omega), ← eo1, ← eM2, show mvdM M2 u o = becM M2 o 2 from if_pos (by assumption)]; exact hr), hsAr_1⟩
  · exact v_vret hO dX4_move_11 rfl (Nat.le_of_ble_eq_true rfl) (Nat.le_of_ble_eq_true rfl) ⟨rfl, Ar, (by rw [show movM u M = M from if_pos (by omega)]; exact hr), scr_rf Ar⟩
theorem yo_X4_remember : yOK yX4_remember 0 := by unfold yOK; exact ⟨by decide +kernel, by decide +kernel, by decide +kernel⟩
set_option maxRecDepth 100000 in
theorem m_remember {G : GT} {h : AH} {am : Nat} {ad : Nat → Nat} {nmf : Int → Option Nat} {S : Nat → Int} {Ar : Nat → Int → Int} {M : Int → Int} (hr : RefAt G h am ad nmf S (rA Ar 0 M)) {A : Nat → Prop} (hA : ∀ q, RA am ad q → A q) (hB : Bq M) : CC G yX4_remember cX4_remember 2 (none) ({ frames := 3, cells := 0, slots := 0, locals := 55 } : Room) A [sref am] h (fun v h1 => v = none ∧ RefAt G h1 am ad nmf S (rA Ar 0 (remM M))) := by
  refine CC.of (by decide +kernel) [(0, sref am)] rfl (Nat.le_of_ble_eq_true rfl) (fun X hnm hO => ?_)
  have hMz : ∀ z, zR (M z) := fun z => hr.zA 0 z
  have hd := hB.hd
  have h8 := hB.1.2.2.2.2.1
  have h4 := hB.h4
  have h2 := hB.1.2.1
  have h5 := hB.1.2.2.2.1
  refine v_iconst (pc := 0) hO dX4_remember_0 ?_
  refine v_istore_n (pc := 1) hO (lv' := [(1, .inl 0), (0, sref am)]) dX4_remember_1 (by decide) rfl ?_
  refine v_pick (lv2 := [(0, sref am), (1, .inl 0)]) [1, 0] rfl ?_
  refine v_loop (σ := Int × (Int → Int) × AH) (fun (u, M1, hL) => 0 ≤ u ∧ u ≤ M 2 ∧ RefAt G hL am ad nmf S (rA Ar 0 M1) ∧ (∀ z, z < 928 → M1 z = M z) ∧ remM M = (if M 5 ≤ 500 then itI rem1 (M 2 - u).toNat u M1 else M1)) (fun (u, M1, hL) => (M 2 - u).toNat) (fun (u, M1, hL) => hL) (fun (u, M1, hL) => [(0, sref am), (1, .inl u)]) (0, M, h) ⟨Int.le_refl _, (by omega), hr, (fun _ _ => rfl), rfl⟩ ?_
  rintro ⟨u, M1, hL⟩ ⟨hi0, hi1, hr, hk, hg⟩ ih
  show VV X G A _ _ _ hL _ _ 2 [(0, sref am), (1, .inl u)] []
  refine v_iload_n (pc := 2) hO dX4_remember_2 rfl ?_
  have k2 := hk 2 (by omega)
  have k5 := hk 5 (by omega)
  refine v_aload_n (pc := 3) hO dX4_remember_3 rfl ?_
  refine v_getf (pc := 4) (v := sref (ad 0)) hO cp_X4 0 q2125 hr.ob (by decide) rfl dX4_remember_4 ?_
  refine v_iconst (pc := 7) hO dX4_remember_7 ?_
  refine r_iald (pc := 8) (w := M1 2) (L := 3934) hO hr 0 ri_0 rfl rfl (by omega) (by omega) dX4_remember_8 ?_
  refine v_icmp_ge (pc := 9) (tgt := 57) hO dX4_remember_9 (by decide) (by first | assumption | exact hr.zA 0 _ | exact hr.zA 8 _ | exact hr.zA 9 _ | exact hr.zS _ | exact hMz _ | exact hMz1 _ | exact zw_R _ | (unfold zR; omega)) (by first | assumption | exact hr.zA 0 _ | exact hr.zA 8 _ | exact hr.zA 9 _ | exact hr.zS _ | exact hMz _ | exact hMz1 _ | exact zw_R _ | (unfold zR; omega)) (fun c9 => ?_) (fun c9 => ?_)
  · have hg : remM M = M1 := hg.trans (by split <;> first | exact itI_e (by omega) | rfl)
    rw [← hg] at hr
    exact v_vret hO dX4_remember_57 rfl (Nat.le_of_ble_eq_true rfl) (Nat.le_of_ble_eq_true rfl) ⟨rfl, hr⟩
  · refine v_aload_n (pc := 12) hO dX4_remember_12 rfl ?_
    refine v_callV (pc := 13) (b := am) hO cp_X4 hr.ob (m_turnNow hr) (lw_V q2264 q2266 qs41 q117 q2267) yo_X4_turnNow rfl rfl rfl (by decide) (by decide) (k2 := 0) (n2 := 0) (by decide) (by decide) (by decide) (by decide) dX4_remember_13 (fun va hv hp hf1 => ?_)
    obtain ⟨rfl, rfl⟩ := hp
    refine v_sipush (pc := 16) hO dX4_remember_16 (by decide +kernel) ?_
    refine v_icmp_gt (pc := 19) (tgt := 57) hO dX4_remember_19 (by decide) (by first | assumption | exact hr.zA 0 _ | exact hr.zA 8 _ | exact hr.zA 9 _ | exact hr.zS _ | exact hMz _ | exact hMz1 _ | exact zw_R _ | (unfold zR; omega)) (by first | assumption | exact hr.zA 0 _ | exact hr.zA 8 _ | exact hr.zA 9 _ | exact hr.zS _ | exact hMz _ | exact hMz1 _ | exact zw_R _ | (unfold zR; omega)) (fun c19 => ?_) (fun c19 => ?_)
    · have hg : remM M = M1 := hg.trans (by split <;> first | exact itI_e (by omega) | rfl)
      rw [← hg] at hr
      exact v_vret hO dX4_remember_57 rfl (Nat.le_of_ble_eq_true rfl) (Nat.le_of_ble_eq_true rfl) ⟨rfl, hr⟩
    · have hU := (hB.2.1 u hi0 (by omega)).1
      have kx := hk (12 + 4 * u + 0) (by omega)
      have ky := hk (12 + 4 * u + 1) (by omega)
      refine v_aload_n (pc := 22) hO dX4_remember_22 rfl ?_
      refine v_getf (pc := 23) (v := sref (ad 0)) hO cp_X4 0 q2125 hr.ob (by decide) rfl dX4_remember_23 ?_
      refine v_iload_n (pc := 26) hO dX4_remember_26 rfl ?_
      refine v_aload_n (pc := 27) hO dX4_remember_27 rfl ?_
      refine v_callV (pc := 28) (b := am) hO cp_X4 hr.ob (m_turnNow hr) (lw_V q2264 q2266 qs41 q117 q2267) yo_X4_turnNow rfl rfl rfl (by decide) (by decide) (k2 := 0) (n2 := 0) (by decide) (by decide) (by decide) (by decide) dX4_remember_28 (fun va hv hp hf1 => ?_)
      obtain ⟨rfl, rfl⟩ := hp
      refine v_callS (pc := 31) hO (m_wasSlot u (M1 5)) (lw_S q2365 q2366 q117 q2367) yo_X4_wasSlot rfl rfl (by decide) (by decide) (k2 := 0) (n2 := 0) (by decide) (by decide) (by decide) (by decide) dX4_remember_31 (fun va hv hp hf1 => ?_)
      obtain ⟨rfl, rfl⟩ := hp
      refine v_bipush (pc := 34) hO dX4_remember_34 (by decide +kernel) ?_
      refine v_aload_n (pc := 36) hO dX4_remember_36 rfl ?_
      refine v_iload_n (pc := 37) hO dX4_remember_37 rfl ?_
      refine v_iconst (pc := 38) hO dX4_remember_38 ?_
      refine v_callV (pc := 39) (b := am) hO cp_X4 hr.ob (m_ofUnit hr u 1 (by omega) (by omega)) (lw_V q2234 q2236 qs36 q117 q2237) yo_X4_ofUnit rfl rfl rfl (by decide) (by decide) (k2 := 0) (n2 := 0) (by decide) (by decide) (by decide) (by decide) dX4_remember_39 (fun va hv hp hf1 => ?_)
      obtain ⟨rfl, rfl⟩ := hp
      refine v_imul (pc := 42) hO dX4_remember_42 ?_
      refine v_aload_n (pc := 43) hO dX4_remember_43 rfl ?_
      refine v_iload_n (pc := 44) hO dX4_remember_44 rfl ?_
      refine v_iconst (pc := 45) hO dX4_remember_45 ?_
      refine v_callV (pc := 46) (b := am) hO cp_X4 hr.ob (m_ofUnit hr u 0 (by omega) (by omega)) (lw_V q2234 q2236 qs36 q117 q2237) yo_X4_ofUnit rfl rfl rfl (by decide) (by decide) (k2 := 0) (n2 := 0) (by decide) (by decide) (by decide) (by decide) dX4_remember_46 (fun va hv hp hf1 => ?_)
      obtain ⟨rfl, rfl⟩ := hp
      refine v_iadd (pc := 49) hO dX4_remember_49 ?_
      refine r_iast (pc := 50) (Ar2 := (rA Ar 0 (zupd M1 (928 + 501 * u + (M1 5)) (100 * (M1 (12 + 4 * u + 1)) + (M1 (12 + 4 * u + 0)))))) (L := 3934) hO hr hA 0 ri_0 rfl (rA_rA _ _ _ _) (by omega) (by omega) (by first | assumption | exact hr.zA 0 _ | exact hr.zA 8 _ | exact hr.zA 9 _ | exact hr.zS _ | exact hMz _ | exact hMz1 _ | exact zw_R _ | (unfold zR; omega)) dX4_remember_50 (fun h hr => ?_)
      refine v_iinc (pc := 51) hO (lv' := [(1, .inl (u + 1)), (0, sref am)]) dX4_remember_51 rfl (by decide) rfl ?_
      refine v_goto (pc := 54) (tgt := 2) hO dX4_remember_54 (by decide) ?_
      refine v_pick (lv2 := [(0, sref am), (1, .inl ((u + 1)))]) [1, 0] rfl ?_
      exact ih (u + 1, zupd M1 (928 + 501 * u + (M1 5)) (100 * (M1 (12 + 4 * u + 1)) + (M1 (12 + 4 * u + 0))), _) ⟨(by omega), (by omega), hr, (fun z hz => (zupd_n (by omega)).trans (hk z hz)), (hg.trans (by rw [if_pos (by omega), if_pos (by omega)]; exact itI_s (by omega)))⟩ (by show (M 2 - (u + 1)).toNat < (M 2 - u).toNat; omega)
theorem yo_X4_passTurn : yOK yX4_passTurn 0 := by unfold yOK; exact ⟨by decide +kernel, by decide +kernel, by decide +kernel⟩
set_option maxRecDepth 100000 in
theorem m_passTurn {G : GT} {h : AH} {am : Nat} {ad : Nat → Nat} {nmf : Int → Option Nat} {S : Nat → Int} {Ar : Nat → Int → Int} {M : Int → Int} (hr : RefAt G h am ad nmf S (rA Ar 0 M)) {A : Nat → Prop} (hA : ∀ q, RA am ad q → A q) (hB : Bq M) (h5 : M 5 ≤ 599) : CC G yX4_passTurn cX4_passTurn 3 (none) ({ frames := 8, cells := 0, slots := 0, locals := 173 } : Room) A [sref am] h (fun v h1 => v = none ∧ ∃ Ar2, RefAt G h1 am ad nmf S (rA Ar2 0 (pasM M)) ∧ scr Ar2 Ar) := by
  refine CC.of (by decide +kernel) [(0, sref am)] rfl (Nat.le_of_ble_eq_true rfl) (fun X hnm hO => ?_)
  have hMz : ∀ z, zR (M z) := fun z => hr.zA 0 z
  have h50 := hB.1.2.2.2.1
  refine v_aload_n (pc := 0) hO dX4_passTurn_0 rfl ?_
  refine v_callV (pc := 1) (b := am) hO cp_X4 hr.ob (m_sendPlanned hr hA hB) (lw_V q2399 q2401 qs58 q117 q2402) yo_X4_sendPlanned rfl rfl rfl (by decide) (by decide) (k2 := 0) (n2 := 0) (by decide) (by decide) (by decide) (by decide) dX4_passTurn_1 (fun va hv hp hf1 => ?_)
  obtain ⟨rfl, hr⟩ := hp
  obtain ⟨N1, eN1⟩ : ∃ z, z = sndM M := ⟨_, rfl⟩
  have hr : RefAt G _ am ad nmf S (rA Ar 0 N1) := (by rw [eN1]; exact hr)
  obtain ⟨hB, hcw⟩ := sndM_Bq hB
  rw [← eN1] at hB hcw
  have k4 := hB.h4
  have k25 := hcw 5 (by omega)
  have hMz1 : ∀ z, zR (N1 z) := fun z => hr.zA 0 z
  refine v_aload_n (pc := 4) hO dX4_passTurn_4 rfl ?_
  refine v_getf (pc := 5) (v := sref (ad 0)) hO cp_X4 0 q2125 hr.ob (by decide) rfl dX4_passTurn_5 ?_
  refine v_iconst (pc := 8) hO dX4_passTurn_8 ?_
  refine r_iald (pc := 9) (w := N1 4) (L := 3934) hO hr 0 ri_0 rfl rfl (by omega) (by omega) dX4_passTurn_9 ?_
  refine v_istore_n (pc := 10) hO (lv' := [(1, .inl (N1 4)), (0, sref am)]) dX4_passTurn_10 (by decide) rfl ?_
  refine v_iconst (pc := 11) hO dX4_passTurn_11 ?_
  refine v_istore_n (pc := 12) hO (lv' := [(2, .inl 0), (1, .inl (N1 4)), (0, sref am)]) dX4_passTurn_12 (by decide) rfl ?_
  refine v_pick (lv2 := [(0, sref am), (1, .inl (N1 4)), (2, .inl 0)]) [2, 1, 0] rfl ?_
  refine v_loop (σ := Int × (Int → Int) × (Nat → Int → Int) × AH) (fun (i, M1, Ar1, hL) => 0 ≤ i ∧ i ≤ N1 4 ∧ Bq M1 ∧ cq N1 M1 ∧ RefAt G hL am ad nmf S (rA Ar1 0 M1) ∧ scr Ar1 Ar ∧ ps1M N1 = itI car1 (N1 4 - i).toNat i M1) (fun (i, M1, Ar1, hL) => (N1 4 - i).toNat) (fun (i, M1, Ar1, hL) => hL) (fun (i, M1, Ar1, hL) => [(0, sref am), (1, .inl (N1 4)), (2, .inl i)]) (0, N1, Ar, _) ⟨Int.le_refl _, (by omega), hB, cq.rf _, hr, scr_rf Ar, rfl⟩ ?_
  rintro ⟨i, M1, Ar1, hL⟩ ⟨hi0, hi1, hB, hc, hr, hsc, hg⟩ ih
  show VV X G A _ _ _ hL _ _ 13 [(0, sref am), (1, .inl (N1 4)), (2, .inl i)] []
  refine v_iload_n (pc := 13) hO dX4_passTurn_13 rfl ?_
  have k41 := hc 4 (by omega)
  refine v_iload_n (pc := 14) hO dX4_passTurn_14 rfl ?_
  refine v_icmp_ge (pc := 15) (tgt := 38) hO dX4_passTurn_15 (by decide) (by first | assumption | exact hr.zA 0 _ | exact hr.zA 8 _ | exact hr.zA 9 _ | exact hr.zS _ | exact hMz _ | exact hMz1 _ | exact zw_R _ | (unfold zR; omega)) (by first | assumption | exact hr.zA 0 _ | exact hr.zA 8 _ | exact hr.zA 9 _ | exact hr.zS _ | exact hMz _ | exact hMz1 _ | exact zw_R _ | (unfold zR; omega)) (fun c15 => ?_) (fun c15 => ?_)
  · have e1 : ps1M N1 = M1 := hg.trans (itI_e (by omega))
    have hB1 := hB
    have hc1 := hc
    have k41 := hc 4 (by omega)
    refine v_iconst (pc := 38) hO dX4_passTurn_38 ?_
    refine v_istore_n (pc := 39) hO (lv' := [(2, .inl 0), (0, sref am), (1, .inl (N1 4))]) dX4_passTurn_39 (by decide) rfl ?_
    refine v_pick (lv2 := [(0, sref am), (1, .inl (N1 4)), (2, .inl 0)]) [1, 2, 0] rfl ?_
    refine v_loop (σ := Int × (Int → Int) × (Nat → Int → Int) × AH) (fun (i, M2, Ar1, hL) => 0 ≤ i ∧ i ≤ N1 4 ∧ Bq M2 ∧ cq M1 M2 ∧ RefAt G hL am ad nmf S (rA Ar1 0 M2) ∧ scr Ar1 Ar ∧ itI los1 (N1 4 - 0).toNat 0 M1 = itI los1 (N1 4 - i).toNat i M2) (fun (i, M2, Ar1, hL) => (N1 4 - i).toNat) (fun (i, M2, Ar1, hL) => hL) (fun (i, M2, Ar1, hL) => [(0, sref am), (1, .inl (N1 4)), (2, .inl i)]) (0, M1, Ar1, _) ⟨Int.le_refl _, (by omega), hB, cq.rf _, hr, hsc, rfl⟩ ?_
    rintro ⟨i, M2, Ar1, hL⟩ ⟨hi0, hi1, hB, hc, hr, hsc, hg⟩ ih
    show VV X G A _ _ _ hL _ _ 40 [(0, sref am), (1, .inl (N1 4)), (2, .inl i)] []
    refine v_iload_n (pc := 40) hO dX4_passTurn_40 rfl ?_
    have k42 := hc 4 (by omega)
    refine v_iload_n (pc := 41) hO dX4_passTurn_41 rfl ?_
    refine v_icmp_ge (pc := 42) (tgt := 87) hO dX4_passTurn_42 (by decide) (by first | assumption | exact hr.zA 0 _ | exact hr.zA 8 _ | exact hr.zA 9 _ | exact hr.zS _ | exact hMz _ | exact hMz1 _ | exact zw_R _ | (unfold zR; omega)) (by first | assumption | exact hr.zA 0 _ | exact hr.zA 8 _ | exact hr.zA 9 _ | exact hr.zS _ | exact hMz _ | exact hMz1 _ | exact zw_R _ | (unfold zR; omega)) (fun c42 => ?_) (fun c42 => ?_)
    · have e2 : ps2M M1 = M2 := (by unfold ps2M; rw [k41]; exact hg.trans (itI_e (by omega)))
      have hB2 := hB
      have hc2 := hc
      have k2b := hB.1.2.1
      refine v_iconst (pc := 87) hO dX4_passTurn_87 ?_
      refine v_istore_n (pc := 88) hO (lv' := [(2, .inl 0), (0, sref am), (1, .inl (N1 4))]) dX4_passTurn_88 (by decide) rfl ?_
      refine v_pick (lv2 := [(0, sref am), (1, .inl (N1 4)), (2, .inl 0)]) [1, 2, 0] rfl ?_
      refine v_loop (σ := Int × (Int → Int) × (Nat → Int → Int) × AH) (fun (i, M3, Ar1, hL) => 0 ≤ i ∧ i ≤ M2 2 ∧ Bq M3 ∧ cq M2 M3 ∧ RefAt G hL am ad nmf S (rA Ar1 0 M3) ∧ scr Ar1 Ar ∧ ps3M M2 = itI movM (M2 2 - i).toNat i M3) (fun (i, M3, Ar1, hL) => (M2 2 - i).toNat) (fun (i, M3, Ar1, hL) => hL) (fun (i, M3, Ar1, hL) => [(0, sref am), (1, .inl (N1 4)), (2, .inl i)]) (0, M2, Ar1, _) ⟨Int.le_refl _, (by omega), hB, cq.rf _, hr, hsc, rfl⟩ ?_
      rintro ⟨i, M3, Ar1, hL⟩ ⟨hi0, hi1, hB, hc, hr, hsc, hg⟩ ih
      show VV X G A _ _ _ hL _ _ 89 [(0, sref am), (1, .inl (N1 4)), (2, .inl i)] []
      refine v_iload_n (pc := 89) hO dX4_passTurn_89 rfl ?_
      have k2c := hc 2 (by omega)
      refine v_aload_n (pc := 90) hO dX4_passTurn_90 rfl ?_
      refine v_getf (pc := 91) (v := sref (ad 0)) hO cp_X4 0 q2125 hr.ob (by decide) rfl dX4_passTurn_91 ?_
      refine v_iconst (pc := 94) hO dX4_passTurn_94 ?_
      refine r_iald (pc := 95) (w := M3 2) (L := 3934) hO hr 0 ri_0 rfl rfl (by omega) (by omega) dX4_passTurn_95 ?_
      refine v_icmp_ge (pc := 96) (tgt := 110) hO dX4_passTurn_96 (by decide) (by first | assumption | exact hr.zA 0 _ | exact hr.zA 8 _ | exact hr.zA 9 _ | exact hr.zS _ | exact hMz _ | exact hMz1 _ | exact zw_R _ | (unfold zR; omega)) (by first | assumption | exact hr.zA 0 _ | exact hr.zA 8 _ | exact hr.zA 9 _ | exact hr.zS _ | exact hMz _ | exact hMz1 _ | exact zw_R _ | (unfold zR; omega)) (fun c96 => ?_) (fun c96 => ?_)
      · have e3 : ps3M M2 = M3 := hg.trans (itI_e (by omega))
        have j5 : M3 5 = M 5 := (by have q1 := hc1 5 (by omega); have q2 := hc2 5 (by omega); have q3 := hc 5 (by omega); omega)
        refine v_aload_n (pc := 110) hO dX4_passTurn_110 rfl ?_
        refine v_getf (pc := 111) (v := sref (ad 0)) hO cp_X4 0 q2125 hr.ob (by decide) rfl dX4_passTurn_111 ?_
        refine v_iconst (pc := 114) hO dX4_passTurn_114 ?_
        refine v_dup2 (pc := 115) hO dX4_passTurn_115 rfl rfl ?_
        refine r_iald (pc := 116) (w := M3 5) (L := 3934) hO hr 0 ri_0 rfl rfl (by omega) (by omega) dX4_passTurn_116 ?_
        refine v_iconst (pc := 117) hO dX4_passTurn_117 ?_
        refine v_iadd (pc := 118) hO dX4_passTurn_118 ?_
        refine r_iast (pc := 119) (Ar2 := (rA Ar1 0 (zupd M3 5 (M3 5 + 1)))) (L := 3934) hO hr hA 0 ri_0 rfl (rA_rA _ _ _ _) (by omega) (by omega) (by first | assumption | exact hr.zA 0 _ | exact hr.zA 8 _ | exact hr.zA 9 _ | exact hr.zS _ | exact hMz _ | exact hMz1 _ | exact zw_R _ | (unfold zR; omega)) dX4_passTurn_119 (fun h hr => ?_)
        obtain ⟨hB4, -⟩ := trn_Bq hB (by omega)
        refine v_aload_n (pc := 120) hO dX4_passTurn_120 rfl ?_
        refine v_callV (pc := 121) (b := am) hO cp_X4 hr.ob (m_remember hr hA hB4) (lw_V q2435 q2437 qs67 q117 q2438) yo_X4_remember rfl rfl rfl (by decide) (by decide) (k2 := 0) (n2 := 0) (by decide) (by decide) (by decide) (by decide) dX4_passTurn_121 (fun va hv hp hf1 => ?_)
        obtain ⟨rfl, hr⟩ := hp
        have eF : pasM M = remM (zupd M3 5 (M3 5 + 1)) := (by unfold pasM; rw [← eN1, e1, e2, e3])
        rw [← eF] at hr
        exact v_vret hO dX4_passTurn_124 rfl (Nat.le_of_ble_eq_true rfl) (Nat.le_of_ble_eq_true rfl) ⟨rfl, _, hr, hsc⟩
      · refine v_aload_n (pc := 99) hO dX4_passTurn_99 rfl ?_
        refine v_iload_n (pc := 100) hO dX4_passTurn_100 rfl ?_
        refine v_callV (pc := 101) (b := am) hO cp_X4 hr.ob (m_move hr hA i hB (by omega) (by omega)) (lw_V q2423 q2425 qs64 q117 q2426) yo_X4_move rfl rfl rfl (by decide) (by decide) (k2 := 0) (n2 := 0) (by decide) (by decide) (by decide) (by decide) dX4_passTurn_101 (fun va hv hp hf1 => ?_)
        obtain ⟨rfl, Ar_1, hr, hsAr_1⟩ := hp
        have hsAr_1 := hsAr_1.tr hsc
        refine v_iinc (pc := 104) hO (lv' := [(2, .inl (i + 1)), (0, sref am), (1, .inl (N1 4))]) dX4_passTurn_104 rfl (by decide) rfl ?_
        refine v_goto (pc := 107) (tgt := 89) hO dX4_passTurn_107 (by decide) ?_
        refine v_pick (lv2 := [(0, sref am), (1, .inl (N1 4)), (2, .inl ((i + 1)))]) [1, 2, 0] rfl ?_
        exact ih (i + 1, movM i M3, Ar_1, _) ⟨(by omega), (by omega), (by have q9 := (movM_Bq hB hi0 (show i < M3 2 by omega)).1; rw [(show movM i M3 = movM i M3 from rfl)] at q9; exact q9), (hc.tr (by have q9 := (movM_Bq hB hi0 (show i < M3 2 by omega)).2; rw [(show movM i M3 = movM i M3 from rfl)] at q9; exact q9)), hr, hsAr_1, (hg.trans ((itI_s (by omega)).trans (by rw [(show movM i M3 = movM i M3 from rfl)])))⟩ (by show (M2 2 - (i + 1)).toNat < (M2 2 - i).toNat; omega)
    · have ho := hB.ord hi0 (show i < M2 4 by omega)
      have ho4 := ho.2.2.1
      have h55 := hB.1.2.2.2.1
      have h9 := hB.1.2.2.2.2.2.1
      have hMz2 : ∀ z, zR (M2 z) := fun z => hr.zA 0 z
      refine v_aload_n (pc := 45) hO dX4_passTurn_45 rfl ?_
      refine v_iload_n (pc := 46) hO dX4_passTurn_46 rfl ?_
      refine v_iconst (pc := 47) hO dX4_passTurn_47 ?_
      refine v_callV (pc := 48) (b := am) hO cp_X4 hr.ob (m_ofOrder hr i 3 (by omega) (by omega)) (lw_V q2245 q2247 qs38 q117 q2248) yo_X4_ofOrder rfl rfl rfl (by decide) (by decide) (k2 := 0) (n2 := 0) (by decide) (by decide) (by decide) (by decide) dX4_passTurn_48 (fun va hv hp hf1 => ?_)
      obtain ⟨rfl, rfl⟩ := hp
      refine v_if_ne (pc := 51) (tgt := 81) hO dX4_passTurn_51 (by decide) (by first | assumption | exact hr.zA 0 _ | exact hr.zA 8 _ | exact hr.zA 9 _ | exact hr.zS _ | exact hMz _ | exact hMz1 _ | exact zw_R _ | (unfold zR; omega)) (fun c51 => ?_) (fun c51 => ?_)
      · refine v_iinc (pc := 81) hO (lv' := [(2, .inl (i + 1)), (0, sref am), (1, .inl (N1 4))]) dX4_passTurn_81 rfl (by decide) rfl ?_
        refine v_goto (pc := 84) (tgt := 40) hO dX4_passTurn_84 (by decide) ?_
        refine v_pick (lv2 := [(0, sref am), (1, .inl (N1 4)), (2, .inl ((i + 1)))]) [1, 2, 0] rfl ?_
        exact ih (i + 1, M2, Ar1, _) ⟨(by omega), (by omega), (by have q9 := (los1_Bq hB hi0 (show i < M2 4 by omega)).1; rw [(show los1 i M2 = M2 from if_neg (by omega))] at q9; exact q9), (hc.tr (by have q9 := (los1_Bq hB hi0 (show i < M2 4 by omega)).2; rw [(show los1 i M2 = M2 from if_neg (by omega))] at q9; exact q9)), hr, hsc, (hg.trans ((itI_s (by omega)).trans (by rw [(show los1 i M2 = M2 from if_neg (by omega))])))⟩ (by show (N1 4 - (i + 1)).toNat < (N1 4 - i).toNat; omega)
      · refine v_aload_n (pc := 54) hO dX4_passTurn_54 rfl ?_
        refine v_callV (pc := 55) (b := am) hO cp_X4 hr.ob (m_turnNow hr) (lw_V q2264 q2266 qs41 q117 q2267) yo_X4_turnNow rfl rfl rfl (by decide) (by decide) (k2 := 0) (n2 := 0) (by decide) (by decide) (by decide) (by decide) dX4_passTurn_55 (fun va hv hp hf1 => ?_)
        obtain ⟨rfl, rfl⟩ := hp
        refine v_aload_n (pc := 58) hO dX4_passTurn_58 rfl ?_
        refine v_iload_n (pc := 59) hO dX4_passTurn_59 rfl ?_
        refine v_iconst (pc := 60) hO dX4_passTurn_60 ?_
        refine v_callV (pc := 61) (b := am) hO cp_X4 hr.ob (m_ofOrder hr i 4 (by omega) (by omega)) (lw_V q2245 q2247 qs38 q117 q2248) yo_X4_ofOrder rfl rfl rfl (by decide) (by decide) (k2 := 0) (n2 := 0) (by decide) (by decide) (by decide) (by decide) dX4_passTurn_61 (fun va hv hp hf1 => ?_)
        obtain ⟨rfl, rfl⟩ := hp
        refine v_isub (pc := 64) hO dX4_passTurn_64 ?_
        refine v_aload_n (pc := 65) hO dX4_passTurn_65 rfl ?_
        refine v_getf (pc := 66) (v := sref (ad 0)) hO cp_X4 0 q2125 hr.ob (by decide) rfl dX4_passTurn_66 ?_
        refine v_bipush (pc := 69) hO dX4_passTurn_69 (by decide +kernel) ?_
        refine r_iald (pc := 71) (w := M2 9) (L := 3934) hO hr 0 ri_0 rfl rfl (by omega) (by omega) dX4_passTurn_71 ?_
        refine v_icmp_lt (pc := 72) (tgt := 81) hO dX4_passTurn_72 (by decide) (by first | assumption | exact hr.zA 0 _ | exact hr.zA 8 _ | exact hr.zA 9 _ | exact hr.zS _ | exact hMz _ | exact hMz1 _ | exact zw_R _ | (unfold zR; omega)) (by first | assumption | exact hr.zA 0 _ | exact hr.zA 8 _ | exact hr.zA 9 _ | exact hr.zS _ | exact hMz _ | exact hMz1 _ | exact zw_R _ | (unfold zR; omega)) (fun c72 => ?_) (fun c72 => ?_)
        · refine v_iinc (pc := 81) hO (lv' := [(2, .inl (i + 1)), (0, sref am), (1, .inl (N1 4))]) dX4_passTurn_81 rfl (by decide) rfl ?_
          refine v_goto (pc := 84) (tgt := 40) hO dX4_passTurn_84 (by decide) ?_
          refine v_pick (lv2 := [(0, sref am), (1, .inl (N1 4)), (2, .inl ((i + 1)))]) [1, 2, 0] rfl ?_
          exact ih (i + 1, M2, Ar1, _) ⟨(by omega), (by omega), (by have q9 := (los1_Bq hB hi0 (show i < M2 4 by omega)).1; rw [(show los1 i M2 = M2 from if_neg (by omega))] at q9; exact q9), (hc.tr (by have q9 := (los1_Bq hB hi0 (show i < M2 4 by omega)).2; rw [(show los1 i M2 = M2 from if_neg (by omega))] at q9; exact q9)), hr, hsc, (hg.trans ((itI_s (by omega)).trans (by rw [(show los1 i M2 = M2 from if_neg (by omega))])))⟩ (by show (N1 4 - (i + 1)).toNat < (N1 4 - i).toNat; omega)
        · have hrm := hB.room hi0 (show i < M2 4 by omega)
          rw [wtM_0 (by assumption)] at hrm
          refine v_aload_n (pc := 75) hO dX4_passTurn_75 rfl ?_
          refine v_iload_n (pc := 76) hO dX4_passTurn_76 rfl ?_
          refine v_iconst (pc := 77) hO dX4_passTurn_77 ?_
          refine v_callV (pc := 78) (b := am) hO cp_X4 hr.ob (m_become hr hA i 4 (by omega) (by omega) (by unfold zR; omega) (by omega) (by omega)) (lw_V q2415 q2417 qs62 q117 q2418) yo_X4_become rfl rfl rfl (by decide) (by decide) (k2 := 0) (n2 := 0) (by decide) (by decide) (by decide) (by decide) dX4_passTurn_78 (fun va hv hp hf1 => ?_)
          obtain ⟨rfl, hr⟩ := hp
          refine v_iinc (pc := 81) hO (lv' := [(2, .inl (i + 1)), (0, sref am), (1, .inl (N1 4))]) dX4_passTurn_81 rfl (by decide) rfl ?_
          refine v_goto (pc := 84) (tgt := 40) hO dX4_passTurn_84 (by decide) ?_
          refine v_pick (lv2 := [(0, sref am), (1, .inl (N1 4)), (2, .inl ((i + 1)))]) [1, 2, 0] rfl ?_
          exact ih (i + 1, becM M2 i 4, Ar1, _) ⟨(by omega), (by omega), (by have q9 := (los1_Bq hB hi0 (show i < M2 4 by omega)).1; rw [(show los1 i M2 = becM M2 i 4 from if_pos (by omega))] at q9; exact q9), (hc.tr (by have q9 := (los1_Bq hB hi0 (show i < M2 4 by omega)).2; rw [(show los1 i M2 = becM M2 i 4 from if_pos (by omega))] at q9; exact q9)), hr, hsc, (hg.trans ((itI_s (by omega)).trans (by rw [(show los1 i M2 = becM M2 i 4 from if_pos (by omega))])))⟩ (by show (N1 4 - (i + 1)).toNat < (N1 4 - i).toNat; omega)
  · refine v_aload_n (pc := 18) hO dX4_passTurn_18 rfl ?_
    refine v_iload_n (pc := 19) hO dX4_passTurn_19 rfl ?_
    refine v_iconst (pc := 20) hO dX4_passTurn_20 ?_
    refine v_callV (pc := 21) (b := am) hO cp_X4 hr.ob (m_ofOrder hr i 3 (by omega) (by omega)) (lw_V q2245 q2247 qs38 q117 q2248) yo_X4_ofOrder rfl rfl rfl (by decide) (by decide) (k2 := 0) (n2 := 0) (by decide) (by decide) (by decide) (by decide) dX4_passTurn_21 (fun va hv hp hf1 => ?_)
    obtain ⟨rfl, rfl⟩ := hp
    refine v_if_ne (pc := 24) (tgt := 32) hO dX4_passTurn_24 (by decide) (by first | assumption | exact hr.zA 0 _ | exact hr.zA 8 _ | exact hr.zA 9 _ | exact hr.zS _ | exact hMz _ | exact hMz1 _ | exact zw_R _ | (unfold zR; omega)) (fun c24 => ?_) (fun c24 => ?_)
    · refine v_iinc (pc := 32) hO (lv' := [(2, .inl (i + 1)), (0, sref am), (1, .inl (N1 4))]) dX4_passTurn_32 rfl (by decide) rfl ?_
      refine v_goto (pc := 35) (tgt := 13) hO dX4_passTurn_35 (by decide) ?_
      refine v_pick (lv2 := [(0, sref am), (1, .inl (N1 4)), (2, .inl ((i + 1)))]) [1, 2, 0] rfl ?_
      exact ih (i + 1, M1, Ar1, _) ⟨(by omega), (by omega), (by have q9 := (car1_Bq hB hi0 (show i < M1 4 by omega)).1; rw [(show car1 i M1 = M1 from if_neg (by assumption))] at q9; exact q9), (hc.tr (by have q9 := (car1_Bq hB hi0 (show i < M1 4 by omega)).2; rw [(show car1 i M1 = M1 from if_neg (by assumption))] at q9; exact q9)), hr, hsc, (hg.trans ((itI_s (by omega)).trans (by rw [(show car1 i M1 = M1 from if_neg (by assumption))])))⟩ (by show (N1 4 - (i + 1)).toNat < (N1 4 - i).toNat; omega)
    · refine v_aload_n (pc := 27) hO dX4_passTurn_27 rfl ?_
      refine v_iload_n (pc := 28) hO dX4_passTurn_28 rfl ?_
      refine v_callV (pc := 29) (b := am) hO cp_X4 hr.ob (m_carry hr hA i hB (by omega) (by omega) (by assumption)) (lw_V q2403 q2405 qs59 q117 q2406) yo_X4_carry rfl rfl rfl (by decide) (by decide) (k2 := 0) (n2 := 0) (by decide) (by decide) (by decide) (by decide) dX4_passTurn_29 (fun va hv hp hf1 => ?_)
      obtain ⟨rfl, Ar_2, hr, hsAr_2⟩ := hp
      have hsAr_2 := hsAr_2.tr hsc
      refine v_iinc (pc := 32) hO (lv' := [(2, .inl (i + 1)), (0, sref am), (1, .inl (N1 4))]) dX4_passTurn_32 rfl (by decide) rfl ?_
      refine v_goto (pc := 35) (tgt := 13) hO dX4_passTurn_35 (by decide) ?_
      refine v_pick (lv2 := [(0, sref am), (1, .inl (N1 4)), (2, .inl ((i + 1)))]) [1, 2, 0] rfl ?_
      exact ih (i + 1, carM M1 i, Ar_2, _) ⟨(by omega), (by omega), (by have q9 := (car1_Bq hB hi0 (show i < M1 4 by omega)).1; rw [(show car1 i M1 = carM M1 i from if_pos (by assumption))] at q9; exact q9), (hc.tr (by have q9 := (car1_Bq hB hi0 (show i < M1 4 by omega)).2; rw [(show car1 i M1 = carM M1 i from if_pos (by assumption))] at q9; exact q9)), hr, hsAr_2, (hg.trans ((itI_s (by omega)).trans (by rw [(show car1 i M1 = carM M1 i from if_pos (by assumption))])))⟩ (by show (N1 4 - (i + 1)).toNat < (N1 4 - i).toNat; omega)
