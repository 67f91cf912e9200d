/-! THE REFERENCE, 7: what would be; operations -/
set_option maxRecDepth 100000
abbrev tgtP (M : Int → Int) (a x y : Int) : Prop := inb a 0 (M 2 - 1) ∧ cellP M x y
def wbeM (M : Int → Int) (u x y t : Int) : Int := if M 4 = 40 then -1 else psN (dspM M u x y) t (64 + 10 * M 4 + 3)
abbrev bstP (M : Int → Int) (u x y : Int) (d : Int) : Bool := decide (arlM (psN M d) u x y ≠ -1)
def bstM (M : Int → Int) (u x y : Int) : Int := fstI (bstP M u x y) ((16 : Int) - 0).toNat 0
abbrev flgP (M N : Int → Int) (o : Int) : Bool := decide (M (64 + 10 * o + 3) = 0 ∧ (N (64 + 10 * o + 3) = 4 ∨ N (64 + 10 * o + 3) = 5))
def flgM (M : Int → Int) (t : Int) : Int := cntI (flgP M (psN M t)) (M 4 - 0).toNat 0
abbrev hl1P (M : Int → Int) (x y : Int) (u : Int) : Bool := decide (M (12 + 4 * u + 0) = x ∧ M (12 + 4 * u + 1) = y)
abbrev hl2P (M : Int → Int) (x y : Int) (o : Int) : Bool := decide (M (64 + 10 * o + 3) = 0 ∧ M (64 + 10 * o + 7) = x ∧ M (64 + 10 * o + 8) = y)
def hldM (M : Int → Int) (x y : Int) : Bool := decide (M 10 = x ∧ M 11 = y) || anyI (hl1P M x y) (M 2 - 0).toNat 0 || anyI (hl2P M x y) (M 4 - 0).toNat 0
abbrev gl1P (M : Int → Int) (x y : Int) (o : Int) : Bool := decide (M (64 + 10 * o + 3) ≤ 1 ∧ M (64 + 10 * o + 1) = x ∧ M (64 + 10 * o + 2) = y)
abbrev gl2P (M : Int → Int) (x y : Int) (p : Int) : Bool := decide (M (464 + 4 * p + 3) ≥ M 5 ∧ M (464 + 4 * p + 1) = x ∧ M (464 + 4 * p + 2) = y)
def golM (M : Int → Int) (x y : Int) : Bool := anyI (gl1P M x y) (M 4 - 0).toNat 0 || anyI (gl2P M x y) (M 8 - 0).toNat 0
def walM (M : Int → Int) (x y : Int) : Int → Int := zupd (zupd M (784 + 12 * y + x) (1 - M (784 + 12 * y + x))) 6 (M 6 + (2 * (1 - M (784 + 12 * y + x)) - 1))
def mpkM (M : Int → Int) (p x y : Int) : Int → Int := zupd (zupd M (36 + 7 * p + 0) x) (36 + 7 * p + 1) y
section IOR
variable {X : XT} {G : GT} {A : Nat → Prop} {h0 : AH} {cc : ByteArray} {nL : Nat} {own : String} {rm : Room} {ret : Option FieldType} {Q : State → Prop} {h : AH} {k n : Nat} {pc : Nat} {lv : List (Nat × SV)} {st : List SV}
theorem v_ior1 (hO : OKX X G A cc nL own rm ret) {b : Bool} (d : decode cc pc = .ok (.ior, 1)) (kk : VV X G A h0 nL Q h k n (pc + 1) lv (.inl (b2i true) :: st)) : VV X G A h0 nL Q h k n (pc) lv (.inl 1 :: .inl (b2i b) :: st) := v_ior hO d (by cases b <;> decide) kk
theorem v_ior0 (hO : OKX X G A cc nL own rm ret) {b : Bool} (d : decode cc pc = .ok (.ior, 1)) (kk : VV X G A h0 nL Q h k n (pc + 1) lv (.inl (b2i b) :: st)) : VV X G A h0 nL Q h k n (pc) lv (.inl 0 :: .inl (b2i b) :: st) := v_ior hO d (by cases b <;> decide) kk
end IOR
theorem yo_X4_wouldBe : yOK yX4_wouldBe 4 := by unfold yOK; exact ⟨by decide +kernel, by decide +kernel, by decide +kernel⟩
set_option maxRecDepth 100000 in
theorem m_wouldBe {G : GT} {h : AH} {am : Nat} {ad : Nat → Nat} {nmf : Int → Option Nat} {S : Nat → Int} {Ar : Nat → Int → Int} {M : Int → Int} (hr : RefAt G h am ad nmf S (rA Ar 0 M)) {A : Nat → Prop} (hA : ∀ q, RA am ad q → A q) (a x y t : Int) (zt : zR t) (za : zR a) (zx : zR x) (zy : zR y) (hB : Bq M) (hT : M 5 ≤ 500) : CC G yX4_wouldBe cX4_wouldBe 8 (some .int) ({ frames := 9, cells := 0, slots := 0, locals := 195 } : Room) A [sref am, .inl a, .inl x, .inl y, .inl t] h (fun v h1 => (((tgtP M a x y) ∧ (M (784 + 12 * y + x) = 0 ∧ inb t 0 60)) ∧ v = some (.inl (wbeM M a x y t)) ∧ ∃ Ar2, RefAt G h1 am ad nmf (rS S 6 0) (rA Ar2 0 M) ∧ scr2 Ar2 Ar) ∨ (¬ (tgtP M a x y) ∧ v = some (.inl 0) ∧ ∃ Ar2, RefAt G h1 am ad nmf (rS S 6 1) (rA Ar2 0 M) ∧ scr2 Ar2 Ar) ∨ (((tgtP M a x y) ∧ ¬ ((M (784 + 12 * y + x) = 0 ∧ inb t 0 60))) ∧ v = some (.inl 0) ∧ ∃ Ar2, RefAt G h1 am ad nmf (rS S 6 2) (rA Ar2 0 M) ∧ scr2 Ar2 Ar)) := by
  refine CC.of (by decide +kernel) [(0, sref am), (1, .inl a), (2, .inl x), (3, .inl y), (4, .inl t)] rfl (Nat.le_of_ble_eq_true rfl) (fun X hnm hO => ?_)
  have hMz : ∀ z, zR (M z) := fun z => hr.zA 0 z
  have hd := hB.hd
  have h2 := hB.1.2.1
  have h4 := hB.h4
  have h5 := hB.1.2.2.2.1
  have h8 := hB.1.2.2.2.2.1
  have hpics := hB.pics
  have h3 := hpics.1
  have h7 := hB.h7
  have h9m := hB.1.2.2.2.2.2.1
  refine v_aload_n (pc := 0) hO dX4_wouldBe_0 rfl ?_
  refine v_iload_n (pc := 1) hO dX4_wouldBe_1 rfl ?_
  refine v_iload_n (pc := 2) hO dX4_wouldBe_2 rfl ?_
  refine v_iload_n (pc := 3) hO dX4_wouldBe_3 rfl ?_
  refine v_callV (pc := 4) (b := am) hO cp_X4 hr.ob (m_isTarget hr hA a x y (by assumption) (by assumption) (by assumption) hB) (lw_V q2380 q2382 qs54 q117 q2383) yo_X4_isTarget rfl rfl rfl (by decide) (by decide) (k2 := 0) (n2 := 0) (by decide) (by decide) (by decide) (by decide) dX4_wouldBe_4 (fun va hv hp hf1 => ?_)
  rcases hp with ⟨ht, rfl, hr⟩ | ⟨ht, rfl, hr⟩ | ⟨ht, rfl, hr⟩
  · refine v_istore (pc := 7) hO (lv' := [(5, .inl 1), (0, sref am), (1, .inl a), (2, .inl x), (3, .inl y), (4, .inl t)]) dX4_wouldBe_7 (by decide) rfl ?_
    refine v_aload_n (pc := 9) hO dX4_wouldBe_9 rfl ?_
    refine v_iload (pc := 10) hO dX4_wouldBe_10 rfl ?_
    refine v_if_eq (pc := 12) (tgt := 30) hO dX4_wouldBe_12 (by decide) (by unfold zR; omega) (fun c12 => absurd c12 (by omega)) (fun c12 => ?_)
    refine v_iload (pc := 15) hO dX4_wouldBe_15 rfl ?_
    refine v_iconst (pc := 17) hO dX4_wouldBe_17 ?_
    refine v_bipush (pc := 18) hO dX4_wouldBe_18 (by decide +kernel) ?_
    refine v_callS (pc := 20) hO (m_inRange t 0 60 (by first | assumption | exact hr.zA 0 _ | exact hr.zA 8 _ | exact hr.zA 9 _ | exact hr.zS _ | exact hMz _ | exact hMz1 _ | (unfold zR; omega)) (by first | assumption | exact hr.zA 0 _ | exact hr.zA 8 _ | exact hr.zA 9 _ | exact hr.zS _ | exact hMz _ | exact hMz1 _ | (unfold zR; omega)) (by first | assumption | exact hr.zA 0 _ | exact hr.zA 8 _ | exact hr.zA 9 _ | exact hr.zS _ | exact hMz _ | exact hMz1 _ | (unfold zR; omega))) (lw_S q2219 q2220 q117 q2221) yo_X4_inRange rfl rfl (by decide) (by decide) (k2 := 0) (n2 := 0) (by decide) (by decide) (by decide) (by decide) dX4_wouldBe_20 (fun va hv hp hf1 => ?_)
    obtain ⟨rfl, rfl⟩ := hp
    refine v_ifb_ne (pc := 23) (tgt := 30) hO dX4_wouldBe_23 (by decide) (fun c23 => ?_) (fun c23 => ?_)
    · refine v_aload_n (pc := 30) hO dX4_wouldBe_30 rfl ?_
      refine v_getf (pc := 31) (v := .inl 0) hO cp_X4 6 q2131 hr.ob (by decide) rfl dX4_wouldBe_31 ?_
      refine r_puti (pc := 34) (S2 := (rS S 6 0)) hO hr hA 6 rn_6 q2131 (rS_rS _ _ _ _) (by first | assumption | exact hr.zA 0 _ | exact hr.zA 8 _ | exact hr.zA 9 _ | exact hr.zS _ | exact hMz _ | exact hMz1 _ | exact zw_R _ | (unfold zR; omega)) dX4_wouldBe_34 (fun h hr => ?_)
      refine v_aload_n (pc := 37) hO dX4_wouldBe_37 rfl ?_
      refine v_getf (pc := 38) (v := .inl 0) hO cp_X4 6 q2131 hr.ob (by decide) rfl dX4_wouldBe_38 ?_
      refine v_if_eq (pc := 41) (tgt := 46) hO dX4_wouldBe_41 (by decide) (by unfold zR; omega) (fun c41 => ?_) (fun c41 => absurd c41 (by omega))
      refine v_aload_n (pc := 46) hO dX4_wouldBe_46 rfl ?_
      refine v_getf (pc := 47) (v := sref (ad 0)) hO cp_X4 0 q2125 hr.ob (by decide) rfl dX4_wouldBe_47 ?_
      refine v_iconst (pc := 50) hO dX4_wouldBe_50 ?_
      refine r_iald (pc := 51) (w := M 4) (L := 3934) hO hr 0 ri_0 rfl rfl (by omega) (by omega) dX4_wouldBe_51 ?_
      refine v_istore (pc := 52) hO (lv' := [(6, .inl (M 4)), (5, .inl 1), (0, sref am), (1, .inl a), (2, .inl x), (3, .inl y), (4, .inl t)]) dX4_wouldBe_52 (by decide) rfl ?_
      refine v_iload (pc := 54) hO dX4_wouldBe_54 rfl ?_
      refine v_bipush (pc := 56) hO dX4_wouldBe_56 (by decide +kernel) ?_
      refine v_icmp_ne (pc := 58) (tgt := 63) hO dX4_wouldBe_58 (by decide) (by first | assumption | exact hr.zA 0 _ | exact hr.zA 8 _ | exact hr.zA 9 _ | exact hr.zS _ | exact hMz _ | exact hMz1 _ | exact zw_R _ | (unfold zR; omega)) (by first | assumption | exact hr.zA 0 _ | exact hr.zA 8 _ | exact hr.zA 9 _ | exact hr.zS _ | exact hMz _ | exact hMz1 _ | exact zw_R _ | (unfold zR; omega)) (fun c58 => ?_) (fun c58 => ?_)
      · obtain ⟨hBd, hdo, hd4⟩ := dspM_Bq hB (u := a) (x := x) (y := y) (by omega) (by omega) (by omega)
        have hd5 := hdo 5 (by omega) (by omega)
        refine v_aload_n (pc := 63) hO dX4_wouldBe_63 rfl ?_
        refine v_callV (pc := 64) (b := am) hO cp_X4 hr.ob (m_begin hr hA) (lw_V q2384 q2386 qs55 q117 q2387) yo_X4_begin rfl rfl rfl (by decide) (by decide) (k2 := 0) (n2 := 0) (by decide) (by decide) (by decide) (by decide) dX4_wouldBe_64 (fun va hv hp hf1 => ?_)
        obtain ⟨rfl, hr⟩ := hp
        have hsAr_1 := (scr2_2 Ar M).tr (scr2_rf Ar)
        have a2Ar_1 : rA Ar 2 M 2 = M := rA_s _ _ _
        generalize rA Ar 2 M = Ar_1 at hr hsAr_1 a2Ar_1
        refine v_aload_n (pc := 67) hO dX4_wouldBe_67 rfl ?_
        refine v_iload_n (pc := 68) hO dX4_wouldBe_68 rfl ?_
        refine v_iload_n (pc := 69) hO dX4_wouldBe_69 rfl ?_
        refine v_iload_n (pc := 70) hO dX4_wouldBe_70 rfl ?_
        refine v_callV (pc := 71) (b := am) hO cp_X4 hr.ob (m_dispatch hr hA a x y (by first | assumption | exact hr.zA 0 _ | exact hr.zA 8 _ | exact hr.zA 9 _ | exact hr.zS _ | exact hMz _ | exact hMz1 _ | (unfold zR; omega)) (by first | assumption | exact hr.zA 0 _ | exact hr.zA 8 _ | exact hr.zA 9 _ | exact hr.zS _ | exact hMz _ | exact hMz1 _ | (unfold zR; omega)) (by first | assumption | exact hr.zA 0 _ | exact hr.zA 8 _ | exact hr.zA 9 _ | exact hr.zS _ | exact hMz _ | exact hMz1 _ | (unfold zR; omega)) (by omega) (by omega)) (lw_V q2391 q2393 qs56 q117 q2394) yo_X4_dispatch rfl rfl rfl (by decide) (by decide) (k2 := 0) (n2 := 0) (by decide) (by decide) (by decide) (by decide) dX4_wouldBe_71 (fun va hv hp hf1 => ?_)
        obtain ⟨rfl, hr⟩ := hp
        refine v_iconst (pc := 74) hO dX4_wouldBe_74 ?_
        refine v_istore (pc := 75) hO (lv' := [(7, .inl 0), (6, .inl (M 4)), (5, .inl 1), (0, sref am), (1, .inl a), (2, .inl x), (3, .inl y), (4, .inl t)]) dX4_wouldBe_75 (by decide) rfl ?_
        refine v_pick (lv2 := [(0, sref am), (4, .inl t), (6, .inl (M 4)), (7, .inl 0)]) [3, 7, 1, 0] rfl ?_
        refine v_loop (σ := Int × (Int → Int) × (Nat → Int → Int) × AH) (fun (k, M1, Ar1, hL) => 0 ≤ k ∧ k ≤ t ∧ Bq M1 ∧ RefAt G hL am ad nmf (rS S 6 0) (rA Ar1 0 M1) ∧ scr2 Ar1 Ar ∧ psN (dspM M a x y) t = itI (fun _ => pasM) (t - k).toNat k M1 ∧ M1 5 = M 5 + k ∧ Ar1 2 = M) (fun (k, M1, Ar1, hL) => (t - k).toNat) (fun (k, M1, Ar1, hL) => hL) (fun (k, M1, Ar1, hL) => [(0, sref am), (4, .inl t), (6, .inl (M 4)), (7, .inl k)]) (0, dspM M a x y, Ar_1, _) ⟨Int.le_refl _, (by omega), hBd, hr, hsAr_1, rfl, (by first | omega | (rw [Int.add_zero]; assumption)), a2Ar_1⟩ ?_
        rintro ⟨k, M1, Ar1, hL⟩ ⟨hk0, hk1, hB, hr, hsc, hg, h5k, h2a⟩ ih
        show VV X G A _ _ _ hL _ _ 77 [(0, sref am), (4, .inl t), (6, .inl (M 4)), (7, .inl k)] []
        refine v_iload (pc := 77) hO dX4_wouldBe_77 rfl ?_
        refine v_iload (pc := 79) hO dX4_wouldBe_79 rfl ?_
        refine v_icmp_ge (pc := 81) (tgt := 94) hO dX4_wouldBe_81 (by decide) (by first | assumption | exact hr.zA 0 _ | exact hr.zA 8 _ | exact hr.zA 9 _ | exact hr.zS _ | exact hMz _ | exact hMz1 _ | exact zw_R _ | (unfold zR; omega)) (by first | assumption | exact hr.zA 0 _ | exact hr.zA 8 _ | exact hr.zA 9 _ | exact hr.zS _ | exact hMz _ | exact hMz1 _ | exact zw_R _ | (unfold zR; omega)) (fun c81 => ?_) (fun c81 => ?_)
        · have hM14 : M 4 < 40 := (by omega)
          refine v_aload_n (pc := 94) hO dX4_wouldBe_94 rfl ?_
          refine v_iload (pc := 95) hO dX4_wouldBe_95 rfl ?_
          refine v_iconst (pc := 97) hO dX4_wouldBe_97 ?_
          refine v_callV (pc := 98) (b := am) hO cp_X4 hr.ob (m_ofOrder hr (M 4) 3 (by omega) (by omega)) (lw_V q2245 q2247 qs38 q117 q2248) yo_X4_ofOrder rfl rfl rfl (by decide) (by decide) (k2 := 0) (n2 := 0) (by decide) (by decide) (by decide) (by decide) dX4_wouldBe_98 (fun va hv hp hf1 => ?_)
          obtain ⟨rfl, rfl⟩ := hp
          refine v_istore (pc := 101) hO (lv' := [(7, .inl (M1 (64 + 10 * (M 4) + 3))), (0, sref am), (4, .inl t), (6, .inl (M 4))]) dX4_wouldBe_101 (by decide) rfl ?_
          refine v_aload_n (pc := 103) hO dX4_wouldBe_103 rfl ?_
          refine v_callV (pc := 104) (b := am) hO cp_X4 hr.ob (m_end hr hA M h2a hMz) (lw_V q2439 q2441 qs68 q117 q2442) yo_X4_end rfl rfl rfl (by decide) (by decide) (k2 := 0) (n2 := 0) (by decide) (by decide) (by decide) (by decide) dX4_wouldBe_104 (fun va hv hp hf1 => ?_)
          obtain ⟨rfl, hr⟩ := hp
          refine v_iload (pc := 107) hO dX4_wouldBe_107 rfl ?_
          exact v_iret hO dX4_wouldBe_109 rfl (Nat.le_of_ble_eq_true rfl) (Nat.le_of_ble_eq_true rfl) (Or.inl ⟨by omega, (congrArg (fun z => some (Sum.inl z)) (by unfold wbeM; rw [if_neg (by omega), hg.trans (itI_e (by omega))])), _, hr, hsc⟩)
        · refine v_aload_n (pc := 84) hO dX4_wouldBe_84 rfl ?_
          refine v_callV (pc := 85) (b := am) hO cp_X4 hr.ob (m_passTurn hr hA hB (by omega)) (lw_V q2395 q2397 qs57 q117 q2398) yo_X4_passTurn rfl rfl rfl (by decide) (by decide) (k2 := 0) (n2 := 0) (by decide) (by decide) (by decide) (by decide) dX4_wouldBe_85 (fun va hv hp hf1 => ?_)
          obtain ⟨rfl, Ar_2, hr, hsAr_2⟩ := hp
          have a2Ar_2 := (hsAr_2 2 (by decide) (by decide) (by decide)).trans h2a
          have hsAr_2 := hsAr_2.s2.tr hsc
          refine v_iinc (pc := 88) hO (lv' := [(7, .inl (k + 1)), (0, sref am), (4, .inl t), (6, .inl (M 4))]) dX4_wouldBe_88 rfl (by decide) rfl ?_
          refine v_goto (pc := 91) (tgt := 77) hO dX4_wouldBe_91 (by decide) ?_
          refine v_pick (lv2 := [(0, sref am), (4, .inl t), (6, .inl (M 4)), (7, .inl ((k + 1)))]) [1, 2, 3, 0] rfl ?_
          exact ih (k + 1, pasM M1, Ar_2, _) ⟨(by omega), (by omega), (pasM_Bq hB (by omega)).1, hr, hsAr_2, (hg.trans (itI_s (by omega))), (by rw [(pasM_Bq hB (by omega)).2.1]; omega), a2Ar_2⟩ (by show (t - (k + 1)).toNat < (t - k).toNat; omega)
      · refine v_iconst (pc := 61) hO dX4_wouldBe_61 ?_
        exact v_iret hO dX4_wouldBe_62 rfl (Nat.le_of_ble_eq_true rfl) (Nat.le_of_ble_eq_true rfl) (Or.inl ⟨by omega, (congrArg (fun z => some (Sum.inl z)) (by unfold wbeM; rw [if_pos (by omega)])), _, hr, scr2_rf Ar⟩)
    · refine v_iconst (pc := 26) hO dX4_wouldBe_26 ?_
      refine v_goto (pc := 27) (tgt := 34) hO dX4_wouldBe_27 (by decide) ?_
      refine r_puti (pc := 34) (S2 := (rS S 6 2)) hO hr hA 6 rn_6 q2131 (rS_rS _ _ _ _) (by first | assumption | exact hr.zA 0 _ | exact hr.zA 8 _ | exact hr.zA 9 _ | exact hr.zS _ | exact hMz _ | exact hMz1 _ | exact zw_R _ | (unfold zR; omega)) dX4_wouldBe_34 (fun h hr => ?_)
      refine v_aload_n (pc := 37) hO dX4_wouldBe_37 rfl ?_
      refine v_getf (pc := 38) (v := .inl 2) hO cp_X4 6 q2131 hr.ob (by decide) rfl dX4_wouldBe_38 ?_
      refine v_if_eq (pc := 41) (tgt := 46) hO dX4_wouldBe_41 (by decide) (by unfold zR; omega) (fun c41 => absurd c41 (by omega)) (fun c41 => ?_)
      refine v_iconst (pc := 44) hO dX4_wouldBe_44 ?_
      exact v_iret hO dX4_wouldBe_45 rfl (Nat.le_of_ble_eq_true rfl) (Nat.le_of_ble_eq_true rfl) (Or.inr (Or.inr ⟨by omega, rfl, _, hr, scr2_rf Ar⟩))
  · refine v_istore (pc := 7) hO (lv' := [(5, .inl 0), (0, sref am), (1, .inl a), (2, .inl x), (3, .inl y), (4, .inl t)]) dX4_wouldBe_7 (by decide) rfl ?_
    refine v_aload_n (pc := 9) hO dX4_wouldBe_9 rfl ?_
    refine v_iload (pc := 10) hO dX4_wouldBe_10 rfl ?_
    refine v_if_eq (pc := 12) (tgt := 30) hO dX4_wouldBe_12 (by decide) (by unfold zR; omega) (fun c12 => ?_) (fun c12 => absurd c12 (by omega))
    refine v_aload_n (pc := 30) hO dX4_wouldBe_30 rfl ?_
    refine v_getf (pc := 31) (v := .inl 1) hO cp_X4 6 q2131 hr.ob (by decide) rfl dX4_wouldBe_31 ?_
    refine r_puti (pc := 34) (S2 := (rS S 6 1)) hO hr hA 6 rn_6 q2131 (rS_rS _ _ _ _) (by first | assumption | exact hr.zA 0 _ | exact hr.zA 8 _ | exact hr.zA 9 _ | exact hr.zS _ | exact hMz _ | exact hMz1 _ | exact zw_R _ | (unfold zR; omega)) dX4_wouldBe_34 (fun h hr => ?_)
    refine v_aload_n (pc := 37) hO dX4_wouldBe_37 rfl ?_
    refine v_getf (pc := 38) (v := .inl 1) hO cp_X4 6 q2131 hr.ob (by decide) rfl dX4_wouldBe_38 ?_
    refine v_if_eq (pc := 41) (tgt := 46) hO dX4_wouldBe_41 (by decide) (by unfold zR; omega) (fun c41 => absurd c41 (by omega)) (fun c41 => ?_)
    refine v_iconst (pc := 44) hO dX4_wouldBe_44 ?_
    exact v_iret hO dX4_wouldBe_45 rfl (Nat.le_of_ble_eq_true rfl) (Nat.le_of_ble_eq_true rfl) (Or.inr (Or.inl ⟨by omega, rfl, _, hr, scr2_rf Ar⟩))
  · refine v_istore (pc := 7) hO (lv' := [(5, .inl 0), (0, sref am), (1, .inl a), (2, .inl x), (3, .inl y), (4, .inl t)]) dX4_wouldBe_7 (by decide) rfl ?_
    refine v_aload_n (pc := 9) hO dX4_wouldBe_9 rfl ?_
    refine v_iload (pc := 10) hO dX4_wouldBe_10 rfl ?_
    refine v_if_eq (pc := 12) (tgt := 30) hO dX4_wouldBe_12 (by decide) (by unfold zR; omega) (fun c12 => ?_) (fun c12 => absurd c12 (by omega))
    refine v_aload_n (pc := 30) hO dX4_wouldBe_30 rfl ?_
    refine v_getf (pc := 31) (v := .inl 2) hO cp_X4 6 q2131 hr.ob (by decide) rfl dX4_wouldBe_31 ?_
    refine r_puti (pc := 34) (S2 := (rS S 6 2)) hO hr hA 6 rn_6 q2131 (rS_rS _ _ _ _) (by first | assumption | exact hr.zA 0 _ | exact hr.zA 8 _ | exact hr.zA 9 _ | exact hr.zS _ | exact hMz _ | exact hMz1 _ | exact zw_R _ | (unfold zR; omega)) dX4_wouldBe_34 (fun h hr => ?_)
    refine v_aload_n (pc := 37) hO dX4_wouldBe_37 rfl ?_
    refine v_getf (pc := 38) (v := .inl 2) hO cp_X4 6 q2131 hr.ob (by decide) rfl dX4_wouldBe_38 ?_
    refine v_if_eq (pc := 41) (tgt := 46) hO dX4_wouldBe_41 (by decide) (by unfold zR; omega) (fun c41 => absurd c41 (by omega)) (fun c41 => ?_)
    refine v_iconst (pc := 44) hO dX4_wouldBe_44 ?_
    exact v_iret hO dX4_wouldBe_45 rfl (Nat.le_of_ble_eq_true rfl) (Nat.le_of_ble_eq_true rfl) (Or.inr (Or.inr ⟨by omega, rfl, _, hr, scr2_rf Ar⟩))
theorem yo_X4_wouldArrive : yOK yX4_wouldArrive 3 := by unfold yOK; exact ⟨by decide +kernel, by decide +kernel, by decide +kernel⟩
set_option maxRecDepth 100000 in
theorem m_wouldArrive {G : GT} {h : AH} {am : Nat} {ad : Nat → Nat} {nmf : Int → Option Nat} {S : Nat → Int} {Ar : Nat → Int → Int} {M : Int → Int} (hr : RefAt G h am ad nmf S (rA Ar 0 M)) {A : Nat → Prop} (hA : ∀ q, RA am ad q → A q) (a x y : Int) (za : zR a) (zx : zR x) (zy : zR y) (hB : Bq M) (hT : M 5 ≤ 500) : CC G yX4_wouldArrive cX4_wouldArrive 5 (some .int) ({ frames := 10, cells := 0, slots := 0, locals := 219 } : Room) A [sref am, .inl a, .inl x, .inl y] h (fun v h1 => (((tgtP M a x y) ∧ M (784 + 12 * y + x) = 0) ∧ v = some (.inl (arlM M a x y)) ∧ ∃ Ar2, RefAt G h1 am ad nmf (rS S 6 0) (rA Ar2 0 M) ∧ scr2 Ar2 Ar) ∨ (¬ (tgtP M a x y) ∧ v = some (.inl 0) ∧ ∃ Ar2, RefAt G h1 am ad nmf (rS S 6 1) (rA Ar2 0 M) ∧ scr2 Ar2 Ar) ∨ (((tgtP M a x y) ∧ ¬ (M (784 + 12 * y + x) = 0)) ∧ v = some (.inl 0) ∧ ∃ Ar2, RefAt G h1 am ad nmf (rS S 6 2) (rA Ar2 0 M) ∧ scr2 Ar2 Ar)) := by
  refine CC.of (by decide +kernel) [(0, sref am), (1, .inl a), (2, .inl x), (3, .inl y)] rfl (Nat.le_of_ble_eq_true rfl) (fun X hnm hO => ?_)
  have hMz : ∀ z, zR (M z) := fun z => hr.zA 0 z
  have hd := hB.hd
  have h2 := hB.1.2.1
  have h4 := hB.h4
  have h5 := hB.1.2.2.2.1
  have h8 := hB.1.2.2.2.2.1
  have hpics := hB.pics
  have h3 := hpics.1
  have h7 := hB.h7
  have h9m := hB.1.2.2.2.2.2.1
  refine v_aload_n (pc := 0) hO dX4_wouldArrive_0 rfl ?_
  refine v_iload_n (pc := 1) hO dX4_wouldArrive_1 rfl ?_
  refine v_iload_n (pc := 2) hO dX4_wouldArrive_2 rfl ?_
  refine v_iload_n (pc := 3) hO dX4_wouldArrive_3 rfl ?_
  refine v_callV (pc := 4) (b := am) hO cp_X4 hr.ob (m_isTarget hr hA a x y (by assumption) (by assumption) (by assumption) hB) (lw_V q2380 q2382 qs54 q117 q2383) yo_X4_isTarget rfl rfl rfl (by decide) (by decide) (k2 := 0) (n2 := 0) (by decide) (by decide) (by decide) (by decide) dX4_wouldArrive_4 (fun va hv hp hf1 => ?_)
  rcases hp with ⟨ht, rfl, hr⟩ | ⟨ht, rfl, hr⟩ | ⟨ht, rfl, hr⟩
  · refine v_if_ne (pc := 7) (tgt := 12) hO dX4_wouldArrive_7 (by decide) (by unfold zR; omega) (fun c7 => ?_) (fun c7 => absurd c7 (by omega))
    refine v_aload_n (pc := 12) hO dX4_wouldArrive_12 rfl ?_
    refine v_callV (pc := 13) (b := am) hO cp_X4 hr.ob (m_begin hr hA) (lw_V q2384 q2386 qs55 q117 q2387) yo_X4_begin rfl rfl rfl (by decide) (by decide) (k2 := 0) (n2 := 0) (by decide) (by decide) (by decide) (by decide) dX4_wouldArrive_13 (fun va hv hp hf1 => ?_)
    obtain ⟨rfl, hr⟩ := hp
    have hsAr_1 := (scr2_2 Ar M).tr (scr2_rf Ar)
    have a2Ar_1 : rA Ar 2 M 2 = M := rA_s _ _ _
    generalize rA Ar 2 M = Ar_1 at hr hsAr_1 a2Ar_1
    refine v_aload_n (pc := 16) hO dX4_wouldArrive_16 rfl ?_
    refine v_iload_n (pc := 17) hO dX4_wouldArrive_17 rfl ?_
    refine v_iload_n (pc := 18) hO dX4_wouldArrive_18 rfl ?_
    refine v_iload_n (pc := 19) hO dX4_wouldArrive_19 rfl ?_
    refine v_callV (pc := 20) (b := am) hO cp_X4 hr.ob (m_arrivalOf hr hA a x y hB (by omega) (by omega) (by omega) (by assumption) (by assumption)) (lw_V q2447 q2449 qs69 q117 q2450) yo_X4_arrivalOf rfl rfl rfl (by decide) (by decide) (k2 := 0) (n2 := 0) (by decide) (by decide) (by decide) (by decide) dX4_wouldArrive_20 (fun va hv hp hf1 => ?_)
    obtain ⟨rfl, hzl, Ar_2, M_3, hr, hsAr_2⟩ := hp
    have a2Ar_2 := (hsAr_2 2 (by decide) (by decide) (by decide)).trans a2Ar_1
    have hsAr_2 := hsAr_2.s2.tr hsAr_1
    refine v_istore (pc := 23) hO (lv' := [(4, .inl (arlM M a x y)), (0, sref am), (1, .inl a), (2, .inl x), (3, .inl y)]) dX4_wouldArrive_23 (by decide) rfl ?_
    refine v_aload_n (pc := 25) hO dX4_wouldArrive_25 rfl ?_
    refine v_callV (pc := 26) (b := am) hO cp_X4 hr.ob (m_end hr hA M a2Ar_2 hMz) (lw_V q2439 q2441 qs68 q117 q2442) yo_X4_end rfl rfl rfl (by decide) (by decide) (k2 := 0) (n2 := 0) (by decide) (by decide) (by decide) (by decide) dX4_wouldArrive_26 (fun va hv hp hf1 => ?_)
    obtain ⟨rfl, hr⟩ := hp
    refine v_iload (pc := 29) hO dX4_wouldArrive_29 rfl ?_
    exact v_iret hO dX4_wouldArrive_31 rfl (Nat.le_of_ble_eq_true rfl) (Nat.le_of_ble_eq_true rfl) (Or.inl ⟨by omega, rfl, _, hr, hsAr_2⟩)
  · refine v_if_ne (pc := 7) (tgt := 12) hO dX4_wouldArrive_7 (by decide) (by unfold zR; omega) (fun c7 => absurd c7 (by omega)) (fun c7 => ?_)
    refine v_iconst (pc := 10) hO dX4_wouldArrive_10 ?_
    exact v_iret hO dX4_wouldArrive_11 rfl (Nat.le_of_ble_eq_true rfl) (Nat.le_of_ble_eq_true rfl) (Or.inr (Or.inl ⟨by omega, rfl, _, hr, scr2_rf Ar⟩))
  · refine v_if_ne (pc := 7) (tgt := 12) hO dX4_wouldArrive_7 (by decide) (by unfold zR; omega) (fun c7 => absurd c7 (by omega)) (fun c7 => ?_)
    refine v_iconst (pc := 10) hO dX4_wouldArrive_10 ?_
    exact v_iret hO dX4_wouldArrive_11 rfl (Nat.le_of_ble_eq_true rfl) (Nat.le_of_ble_eq_true rfl) (Or.inr (Or.inr ⟨by omega, rfl, _, hr, scr2_rf Ar⟩))
theorem yo_X4_bestDelay : yOK yX4_bestDelay 3 := by unfold yOK; exact ⟨by decide +kernel, by decide +kernel, by decide +kernel⟩
set_option maxRecDepth 100000 in
theorem m_bestDelay {G : GT} {h : AH} {am : Nat} {ad : Nat → Nat} {nmf : Int → Option Nat} {S : Nat → Int} {Ar : Nat → Int → Int} {M : Int → Int} (hr : RefAt G h am ad nmf S (rA Ar 0 M)) {A : Nat → Prop} (hA : ∀ q, RA am ad q → A q) (a x y : Int) (za : zR a) (zx : zR x) (zy : zR y) (hB : Bq M) (hT : M 5 ≤ 500) : CC G yX4_bestDelay cX4_bestDelay 6 (some .int) ({ frames := 10, cells := 0, slots := 0, locals := 219 } : Room) A [sref am, .inl a, .inl x, .inl y] h (fun v h1 => (((tgtP M a x y) ∧ M (784 + 12 * y + x) = 0) ∧ v = some (.inl (bstM M a x y)) ∧ ∃ Ar2, RefAt G h1 am ad nmf (rS S 6 0) (rA Ar2 0 M) ∧ scr2 Ar2 Ar) ∨ (¬ (tgtP M a x y) ∧ v = some (.inl 0) ∧ ∃ Ar2, RefAt G h1 am ad nmf (rS S 6 1) (rA Ar2 0 M) ∧ scr2 Ar2 Ar) ∨ (((tgtP M a x y) ∧ ¬ (M (784 + 12 * y + x) = 0)) ∧ v = some (.inl 0) ∧ ∃ Ar2, RefAt G h1 am ad nmf (rS S 6 2) (rA Ar2 0 M) ∧ scr2 Ar2 Ar)) := by
  refine CC.of (by decide +kernel) [(0, sref am), (1, .inl a), (2, .inl x), (3, .inl y)] rfl (Nat.le_of_ble_eq_true rfl) (fun X hnm hO => ?_)
  have hMz : ∀ z, zR (M z) := fun z => hr.zA 0 z
  have hd := hB.hd
  have h2 := hB.1.2.1
  have h4 := hB.h4
  have h5 := hB.1.2.2.2.1
  have h8 := hB.1.2.2.2.2.1
  have hpics := hB.pics
  have h3 := hpics.1
  have h7 := hB.h7
  have h9m := hB.1.2.2.2.2.2.1
  have hBM := hB
  refine v_aload_n (pc := 0) hO dX4_bestDelay_0 rfl ?_
  refine v_iload_n (pc := 1) hO dX4_bestDelay_1 rfl ?_
  refine v_iload_n (pc := 2) hO dX4_bestDelay_2 rfl ?_
  refine v_iload_n (pc := 3) hO dX4_bestDelay_3 rfl ?_
  refine v_callV (pc := 4) (b := am) hO cp_X4 hr.ob (m_isTarget hr hA a x y (by assumption) (by assumption) (by assumption) hB) (lw_V q2380 q2382 qs54 q117 q2383) yo_X4_isTarget rfl rfl rfl (by decide) (by decide) (k2 := 0) (n2 := 0) (by decide) (by decide) (by decide) (by decide) dX4_bestDelay_4 (fun va hv hp hf1 => ?_)
  rcases hp with ⟨ht, rfl, hr⟩ | ⟨ht, rfl, hr⟩ | ⟨ht, rfl, hr⟩
  · refine v_if_ne (pc := 7) (tgt := 12) hO dX4_bestDelay_7 (by decide) (by unfold zR; omega) (fun c7 => ?_) (fun c7 => absurd c7 (by omega))
    refine v_iconst (pc := 12) hO dX4_bestDelay_12 ?_
    refine v_istore (pc := 13) hO (lv' := [(4, .inl 0), (0, sref am), (1, .inl a), (2, .inl x), (3, .inl y)]) dX4_bestDelay_13 (by decide) rfl ?_
    refine v_pick (lv2 := [(0, sref am), (1, .inl a), (2, .inl x), (3, .inl y), (4, .inl 0)]) [1, 2, 3, 4, 0] rfl ?_
    refine v_loop (σ := Int × (Nat → Int → Int) × AH) (fun (d, Ar1, hL) => 0 ≤ d ∧ d ≤ 16 ∧ RefAt G hL am ad nmf (rS S 6 0) (rA Ar1 0 M) ∧ scr2 Ar1 Ar ∧ bstM M a x y = fstI (bstP M a x y) ((16 : Int) - d).toNat d) (fun (d, Ar1, hL) => ((16 : Int) - d).toNat) (fun (d, Ar1, hL) => hL) (fun (d, Ar1, hL) => [(0, sref am), (1, .inl a), (2, .inl x), (3, .inl y), (4, .inl d)]) (0, Ar, _) ⟨Int.le_refl _, (by omega), hr, (scr2_rf Ar), rfl⟩ ?_
    rintro ⟨d, Ar1, hL⟩ ⟨hd0, hd1, hr, hscO, hg⟩ ihA
    show VV X G A _ _ _ hL _ _ 15 [(0, sref am), (1, .inl a), (2, .inl x), (3, .inl y), (4, .inl d)] []
    refine v_iload (pc := 15) hO dX4_bestDelay_15 rfl ?_
    refine v_bipush (pc := 17) hO dX4_bestDelay_17 (by decide +kernel) ?_
    refine v_icmp_gt (pc := 19) (tgt := 74) hO dX4_bestDelay_19 (by decide) (by first | assumption | exact hr.zA 0 _ | exact hr.zA 8 _ | exact hr.zA 9 _ | exact hr.zS _ | exact hMz _ | exact hMz1 _ | exact zw_R _ | (unfold zR; omega)) (by first | assumption | exact hr.zA 0 _ | exact hr.zA 8 _ | exact hr.zA 9 _ | exact hr.zS _ | exact hMz _ | exact hMz1 _ | exact zw_R _ | (unfold zR; omega)) (fun c19 => ?_) (fun c19 => ?_)
    · refine v_iconst (pc := 74) hO dX4_bestDelay_74 ?_
      exact v_iret hO dX4_bestDelay_75 rfl (Nat.le_of_ble_eq_true rfl) (Nat.le_of_ble_eq_true rfl) (Or.inl ⟨by omega, (congrArg (fun z => some (Sum.inl z)) (hg.trans (fstI_e (by omega))).symm), _, hr, hscO⟩)
    · have hB := hBM
      refine v_aload_n (pc := 22) hO dX4_bestDelay_22 rfl ?_
      refine v_callV (pc := 23) (b := am) hO cp_X4 hr.ob (m_begin hr hA) (lw_V q2384 q2386 qs55 q117 q2387) yo_X4_begin rfl rfl rfl (by decide) (by decide) (k2 := 0) (n2 := 0) (by decide) (by decide) (by decide) (by decide) dX4_bestDelay_23 (fun va hv hp hf1 => ?_)
      obtain ⟨rfl, hr⟩ := hp
      have hsAr_1 := (scr2_2 Ar1 M).tr (hscO)
      have a2Ar_1 : rA Ar1 2 M 2 = M := rA_s _ _ _
      generalize rA Ar1 2 M = Ar_1 at hr hsAr_1 a2Ar_1
      refine v_iconst (pc := 26) hO dX4_bestDelay_26 ?_
      refine v_istore (pc := 27) hO (lv' := [(5, .inl 0), (0, sref am), (1, .inl a), (2, .inl x), (3, .inl y), (4, .inl d)]) dX4_bestDelay_27 (by decide) rfl ?_
      have hgO := hg
      refine v_pick (lv2 := [(0, sref am), (1, .inl a), (2, .inl x), (3, .inl y), (4, .inl d), (5, .inl 0)]) [1, 2, 3, 4, 5, 0] rfl ?_
      refine v_loop (σ := Int × (Int → Int) × (Nat → Int → Int) × AH) (fun (k, M1, Ar1, hL) => 0 ≤ k ∧ k ≤ d ∧ Bq M1 ∧ RefAt G hL am ad nmf (rS S 6 0) (rA Ar1 0 M1) ∧ scr2 Ar1 Ar ∧ psN M d = itI (fun _ => pasM) (d - k).toNat k M1 ∧ M1 5 = M 5 + k ∧ Ar1 2 = M) (fun (k, M1, Ar1, hL) => (d - k).toNat) (fun (k, M1, Ar1, hL) => hL) (fun (k, M1, Ar1, hL) => [(0, sref am), (1, .inl a), (2, .inl x), (3, .inl y), (4, .inl d), (5, .inl k)]) (0, M, Ar_1, _) ⟨Int.le_refl _, (by omega), hBM, hr, hsAr_1, rfl, (by first | omega | (rw [Int.add_zero]; assumption)), a2Ar_1⟩ ?_
      rintro ⟨k, M1, Ar1, hL⟩ ⟨hk0, hk1, hB, hr, hsc, hg, h5k, h2a⟩ ih
      show VV X G A _ _ _ hL _ _ 29 [(0, sref am), (1, .inl a), (2, .inl x), (3, .inl y), (4, .inl d), (5, .inl k)] []
      refine v_iload (pc := 29) hO dX4_bestDelay_29 rfl ?_
      refine v_iload (pc := 31) hO dX4_bestDelay_31 rfl ?_
      refine v_icmp_ge (pc := 33) (tgt := 46) hO dX4_bestDelay_33 (by decide) (by first | assumption | exact hr.zA 0 _ | exact hr.zA 8 _ | exact hr.zA 9 _ | exact hr.zS _ | exact hMz _ | exact hMz1 _ | exact zw_R _ | (unfold zR; omega)) (by first | assumption | exact hr.zA 0 _ | exact hr.zA 8 _ | exact hr.zA 9 _ | exact hr.zS _ | exact hMz _ | exact hMz1 _ | exact zw_R _ | (unfold zR; omega)) (fun c33 => ?_) (fun c33 => ?_)
      · have e1 : psN M d = M1 := hg.trans (itI_e (by omega))
        have k2 := (psN_Bq hBM (n := d) (by omega) (by omega)).2.2.1 2 (by omega)
        rw [e1] at k2
        refine v_aload_n (pc := 46) hO dX4_bestDelay_46 rfl ?_
        refine v_iload_n (pc := 47) hO dX4_bestDelay_47 rfl ?_
        refine v_iload_n (pc := 48) hO dX4_bestDelay_48 rfl ?_
        refine v_iload_n (pc := 49) hO dX4_bestDelay_49 rfl ?_
        refine v_callV (pc := 50) (b := am) hO cp_X4 hr.ob (m_arrivalOf hr hA a x y hB (by omega) (by omega) (by omega) (by assumption) (by assumption)) (lw_V q2447 q2449 qs69 q117 q2450) yo_X4_arrivalOf rfl rfl rfl (by decide) (by decide) (k2 := 0) (n2 := 0) (by decide) (by decide) (by decide) (by decide) dX4_bestDelay_50 (fun va hv hp hf1 => ?_)
        obtain ⟨rfl, hzl, Ar_2, M_3, hr, hsAr_2⟩ := hp
        have a2Ar_2 := (hsAr_2 2 (by decide) (by decide) (by decide)).trans h2a
        have hsAr_2 := hsAr_2.s2.tr hsc
        obtain ⟨r, er⟩ : ∃ z, z = arlM M1 a x y := ⟨_, rfl⟩
        refine v_ttop (w := r) er.symm ?_
        rw [← er] at hzl
        rw [← e1] at er
        refine v_istore (pc := 53) hO (lv' := [(5, .inl r), (0, sref am), (1, .inl a), (2, .inl x), (3, .inl y), (4, .inl d)]) dX4_bestDelay_53 (by decide) rfl ?_
        refine v_aload_n (pc := 55) hO dX4_bestDelay_55 rfl ?_
        refine v_callV (pc := 56) (b := am) hO cp_X4 hr.ob (m_end hr hA M a2Ar_2 hMz) (lw_V q2439 q2441 qs68 q117 q2442) yo_X4_end rfl rfl rfl (by decide) (by decide) (k2 := 0) (n2 := 0) (by decide) (by decide) (by decide) (by decide) dX4_bestDelay_56 (fun va hv hp hf1 => ?_)
        obtain ⟨rfl, hr⟩ := hp
        refine v_iload (pc := 59) hO dX4_bestDelay_59 rfl ?_
        refine v_iconst (pc := 61) hO dX4_bestDelay_61 ?_
        refine v_icmp_eq (pc := 62) (tgt := 68) hO dX4_bestDelay_62 (by decide) (by first | assumption | exact hr.zA 0 _ | exact hr.zA 8 _ | exact hr.zA 9 _ | exact hr.zS _ | exact hMz _ | exact hMz1 _ | exact zw_R _ | (unfold zR; omega)) (by first | assumption | exact hr.zA 0 _ | exact hr.zA 8 _ | exact hr.zA 9 _ | exact hr.zS _ | exact hMz _ | exact hMz1 _ | exact zw_R _ | (unfold zR; omega)) (fun c62 => ?_) (fun c62 => ?_)
        · refine v_iinc (pc := 68) hO (lv' := [(4, .inl (d + 1)), (5, .inl r), (0, sref am), (1, .inl a), (2, .inl x), (3, .inl y)]) dX4_bestDelay_68 rfl (by decide) rfl ?_
          refine v_goto (pc := 71) (tgt := 15) hO dX4_bestDelay_71 (by decide) ?_
          refine v_pick (lv2 := [(0, sref am), (1, .inl a), (2, .inl x), (3, .inl y), (4, .inl ((d + 1)))]) [2, 3, 4, 5, 0] rfl ?_
          exact ihA (d + 1, Ar_2, _) ⟨(by omega), (by omega), hr, hsAr_2, (hgO.trans (fstI_n (p := bstP M a x y) (by omega) (fun e9 => absurd (of_decide_eq_true e9) (by rw [← er]; omega))))⟩ (by show ((16 : Int) - (d + 1)).toNat < ((16 : Int) - d).toNat; omega)
        · refine v_iload (pc := 65) hO dX4_bestDelay_65 rfl ?_
          exact v_iret hO dX4_bestDelay_67 rfl (Nat.le_of_ble_eq_true rfl) (Nat.le_of_ble_eq_true rfl) (Or.inl ⟨by omega, (congrArg (fun z => some (Sum.inl z)) (hgO.trans (fstI_y (p := bstP M a x y) (by omega) (decide_eq_true (by rw [← er]; assumption)))).symm), _, hr, hsAr_2⟩)
      · refine v_aload_n (pc := 36) hO dX4_bestDelay_36 rfl ?_
        refine v_callV (pc := 37) (b := am) hO cp_X4 hr.ob (m_passTurn hr hA hB (by omega)) (lw_V q2395 q2397 qs57 q117 q2398) yo_X4_passTurn rfl rfl rfl (by decide) (by decide) (k2 := 0) (n2 := 0) (by decide) (by decide) (by decide) (by decide) dX4_bestDelay_37 (fun va hv hp hf1 => ?_)
        obtain ⟨rfl, Ar_4, hr, hsAr_4⟩ := hp
        have a2Ar_4 := (hsAr_4 2 (by decide) (by decide) (by decide)).trans h2a
        have hsAr_4 := hsAr_4.s2.tr hsc
        refine v_iinc (pc := 40) hO (lv' := [(5, .inl (k + 1)), (0, sref am), (1, .inl a), (2, .inl x), (3, .inl y), (4, .inl d)]) dX4_bestDelay_40 rfl (by decide) rfl ?_
        refine v_goto (pc := 43) (tgt := 29) hO dX4_bestDelay_43 (by decide) ?_
        refine v_pick (lv2 := [(0, sref am), (1, .inl a), (2, .inl x), (3, .inl y), (4, .inl d), (5, .inl ((k + 1)))]) [1, 2, 3, 4, 5, 0] rfl ?_
        exact ih (k + 1, pasM M1, Ar_4, _) ⟨(by omega), (by omega), (pasM_Bq hB (by omega)).1, hr, hsAr_4, (hg.trans (itI_s (by omega))), (by rw [(pasM_Bq hB (by omega)).2.1]; omega), a2Ar_4⟩ (by show (d - (k + 1)).toNat < (d - k).toNat; omega)
  · refine v_if_ne (pc := 7) (tgt := 12) hO dX4_bestDelay_7 (by decide) (by unfold zR; omega) (fun c7 => absurd c7 (by omega)) (fun c7 => ?_)
    refine v_iconst (pc := 10) hO dX4_bestDelay_10 ?_
    exact v_iret hO dX4_bestDelay_11 rfl (Nat.le_of_ble_eq_true rfl) (Nat.le_of_ble_eq_true rfl) (Or.inr (Or.inl ⟨by omega, rfl, _, hr, scr2_rf Ar⟩))
  · refine v_if_ne (pc := 7) (tgt := 12) hO dX4_bestDelay_7 (by decide) (by unfold zR; omega) (fun c7 => absurd c7 (by omega)) (fun c7 => ?_)
    refine v_iconst (pc := 10) hO dX4_bestDelay_10 ?_
    exact v_iret hO dX4_bestDelay_11 rfl (Nat.le_of_ble_eq_true rfl) (Nat.le_of_ble_eq_true rfl) (Or.inr (Or.inr ⟨by omega, rfl, _, hr, scr2_rf Ar⟩))
theorem yo_X4_failing : yOK yX4_failing 1 := by unfold yOK; exact ⟨by decide +kernel, by decide +kernel, by decide +kernel⟩
set_option maxRecDepth 100000 in
theorem m_failing {G : GT} {h : AH} {am : Nat} {ad : Nat → Nat} {nmf : Int → Option Nat} {S : Nat → Int} {Ar : Nat → Int → Int} {M : Int → Int} (hr : RefAt G h am ad nmf S (rA Ar 0 M)) {A : Nat → Prop} (hA : ∀ q, RA am ad q → A q) (t : Int) (zt : zR t) (hB : Bq M) (hT : M 5 ≤ 500) : CC G yX4_failing cX4_failing 5 (some .int) ({ frames := 9, cells := 0, slots := 0, locals := 195 } : Room) A [sref am, .inl t] h (fun v h1 => ((inb t 0 60) ∧ v = some (.inl (flgM M t)) ∧ ∃ Ar2, RefAt G h1 am ad nmf (rS S 6 0) (rA Ar2 0 M) ∧ scr2 Ar2 Ar) ∨ (¬ (inb t 0 60) ∧ v = some (.inl 0) ∧ ∃ Ar2, RefAt G h1 am ad nmf (rS S 6 1) (rA Ar2 0 M) ∧ scr2 Ar2 Ar)) := by
  refine CC.of (by decide +kernel) [(0, sref am), (1, .inl t)] rfl (Nat.le_of_ble_eq_true rfl) (fun X hnm hO => ?_)
  have hMz : ∀ z, zR (M z) := fun z => hr.zA 0 z
  have hd := hB.hd
  have h2 := hB.1.2.1
  have h4 := hB.h4
  have h5 := hB.1.2.2.2.1
  have h8 := hB.1.2.2.2.2.1
  have hpics := hB.pics
  have h3 := hpics.1
  have h7 := hB.h7
  have h9m := hB.1.2.2.2.2.2.1
  have hBM := hB
  refine v_aload_n (pc := 0) hO dX4_failing_0 rfl ?_
  refine v_iload_n (pc := 1) hO dX4_failing_1 rfl ?_
  refine v_iconst (pc := 2) hO dX4_failing_2 ?_
  refine v_bipush (pc := 3) hO dX4_failing_3 (by decide +kernel) ?_
  refine v_callS (pc := 5) hO (m_inRange t 0 60 (by first | assumption | exact hr.zA 0 _ | exact hr.zA 8 _ | exact hr.zA 9 _ | exact hr.zS _ | exact hMz _ | exact hMz1 _ | (unfold zR; omega)) (by first | assumption | exact hr.zA 0 _ | exact hr.zA 8 _ | exact hr.zA 9 _ | exact hr.zS _ | exact hMz _ | exact hMz1 _ | (unfold zR; omega)) (by first | assumption | exact hr.zA 0 _ | exact hr.zA 8 _ | exact hr.zA 9 _ | exact hr.zS _ | exact hMz _ | exact hMz1 _ | (unfold zR; omega))) (lw_S q2219 q2220 q117 q2221) yo_X4_inRange rfl rfl (by decide) (by decide) (k2 := 0) (n2 := 0) (by decide) (by decide) (by decide) (by decide) dX4_failing_5 (fun va hv hp hf1 => ?_)
  obtain ⟨rfl, rfl⟩ := hp
  refine v_ifb_eq (pc := 8) (tgt := 15) hO dX4_failing_8 (by decide) (fun c8 => ?_) (fun c8 => ?_)
  · refine v_iconst (pc := 15) hO dX4_failing_15 ?_
    refine r_puti (pc := 16) (S2 := (rS S 6 1)) hO hr hA 6 rn_6 q2131 rfl (by first | assumption | exact hr.zA 0 _ | exact hr.zA 8 _ | exact hr.zA 9 _ | exact hr.zS _ | exact hMz _ | exact hMz1 _ | exact zw_R _ | (unfold zR; omega)) dX4_failing_16 (fun h hr => ?_)
    refine v_aload_n (pc := 19) hO dX4_failing_19 rfl ?_
    refine v_getf (pc := 20) (v := .inl 1) hO cp_X4 6 q2131 hr.ob (by decide) rfl dX4_failing_20 ?_
    refine v_if_eq (pc := 23) (tgt := 28) hO dX4_failing_23 (by decide) (by unfold zR; omega) (fun c23 => absurd c23 (by omega)) (fun c23 => ?_)
    refine v_iconst (pc := 26) hO dX4_failing_26 ?_
    exact v_iret hO dX4_failing_27 rfl (Nat.le_of_ble_eq_true rfl) (Nat.le_of_ble_eq_true rfl) (Or.inr ⟨by omega, rfl, _, hr, scr2_rf Ar⟩)
  · refine v_iconst (pc := 11) hO dX4_failing_11 ?_
    refine v_goto (pc := 12) (tgt := 16) hO dX4_failing_12 (by decide) ?_
    refine r_puti (pc := 16) (S2 := (rS S 6 0)) hO hr hA 6 rn_6 q2131 rfl (by first | assumption | exact hr.zA 0 _ | exact hr.zA 8 _ | exact hr.zA 9 _ | exact hr.zS _ | exact hMz _ | exact hMz1 _ | exact zw_R _ | (unfold zR; omega)) dX4_failing_16 (fun h hr => ?_)
    refine v_aload_n (pc := 19) hO dX4_failing_19 rfl ?_
    refine v_getf (pc := 20) (v := .inl 0) hO cp_X4 6 q2131 hr.ob (by decide) rfl dX4_failing_20 ?_
    refine v_if_eq (pc := 23) (tgt := 28) hO dX4_failing_23 (by decide) (by unfold zR; omega) (fun c23 => ?_) (fun c23 => absurd c23 (by omega))
    refine v_aload_n (pc := 28) hO dX4_failing_28 rfl ?_
    refine v_callV (pc := 29) (b := am) hO cp_X4 hr.ob (m_begin hr hA) (lw_V q2384 q2386 qs55 q117 q2387) yo_X4_begin rfl rfl rfl (by decide) (by decide) (k2 := 0) (n2 := 0) (by decide) (by decide) (by decide) (by decide) dX4_failing_29 (fun va hv hp hf1 => ?_)
    obtain ⟨rfl, hr⟩ := hp
    have hsAr_1 := (scr2_2 Ar M).tr (scr2_rf Ar)
    have a2Ar_1 : rA Ar 2 M 2 = M := rA_s _ _ _
    generalize rA Ar 2 M = Ar_1 at hr hsAr_1 a2Ar_1
    refine v_iconst (pc := 32) hO dX4_failing_32 ?_
    refine v_istore_n (pc := 33) hO (lv' := [(2, .inl 0), (0, sref am), (1, .inl t)]) dX4_failing_33 (by decide) rfl ?_
    refine v_pick (lv2 := [(0, sref am), (1, .inl t), (2, .inl 0)]) [1, 2, 0] rfl ?_
    refine v_loop (σ := Int × (Int → Int) × (Nat → Int → Int) × AH) (fun (k, M1, Ar1, hL) => 0 ≤ k ∧ k ≤ t ∧ Bq M1 ∧ RefAt G hL am ad nmf (rS S 6 0) (rA Ar1 0 M1) ∧ scr2 Ar1 Ar ∧ psN M t = itI (fun _ => pasM) (t - k).toNat k M1 ∧ M1 5 = M 5 + k ∧ Ar1 2 = M) (fun (k, M1, Ar1, hL) => (t - k).toNat) (fun (k, M1, Ar1, hL) => hL) (fun (k, M1, Ar1, hL) => [(0, sref am), (1, .inl t), (2, .inl k)]) (0, M, Ar_1, _) ⟨Int.le_refl _, (by omega), hBM, hr, hsAr_1, rfl, (by first | omega | (rw [Int.add_zero]; assumption)), a2Ar_1⟩ ?_
    rintro ⟨k, M1, Ar1, hL⟩ ⟨hk0, hk1, hB, hr, hsc, hg, h5k, h2a⟩ ih
    show VV X G A _ _ _ hL _ _ 34 [(0, sref am), (1, .inl t), (2, .inl k)] []
    refine v_iload_n (pc := 34) hO dX4_failing_34 rfl ?_
    refine v_iload_n (pc := 35) hO dX4_failing_35 rfl ?_
    refine v_icmp_ge (pc := 36) (tgt := 49) hO dX4_failing_36 (by decide) (by first | assumption | exact hr.zA 0 _ | exact hr.zA 8 _ | exact hr.zA 9 _ | exact hr.zS _ | exact hMz _ | exact hMz1 _ | exact zw_R _ | (unfold zR; omega)) (by first | assumption | exact hr.zA 0 _ | exact hr.zA 8 _ | exact hr.zA 9 _ | exact hr.zS _ | exact hMz _ | exact hMz1 _ | exact zw_R _ | (unfold zR; omega)) (fun c36 => ?_) (fun c36 => ?_)
    · have eP : psN M t = M1 := hg.trans (itI_e (by omega))
      have h4p := (psN_Bq hBM (n := t) (by omega) (by omega)).2.2.2
      rw [eP] at h4p
      have h4b := hB.h4
      refine v_iconst (pc := 49) hO dX4_failing_49 ?_
      refine v_istore_n (pc := 50) hO (lv' := [(2, .inl 0), (0, sref am), (1, .inl t)]) dX4_failing_50 (by decide) rfl ?_
      refine v_iconst (pc := 51) hO dX4_failing_51 ?_
      refine v_istore_n (pc := 52) hO (lv' := [(3, .inl 0), (2, .inl 0), (0, sref am), (1, .inl t)]) dX4_failing_52 (by decide) rfl ?_
      refine v_pick (lv2 := [(0, sref am), (2, .inl 0), (3, .inl 0)]) [2, 1, 0] rfl ?_
      refine v_loop (σ := Int × Int) (fun (o, q) => 0 ≤ o ∧ o ≤ M 4 ∧ 0 ≤ q ∧ q ≤ o ∧ flgM M t = q + cntI (flgP M (psN M t)) (M 4 - o).toNat o) (fun (o, q) => (M 4 - o).toNat) (fun (o, q) => hL) (fun (o, q) => [(0, sref am), (2, .inl q), (3, .inl o)]) (0, 0) ⟨Int.le_refl _, (by omega), Int.le_refl _, Int.le_refl _, (by unfold flgM; omega)⟩ ?_
      rintro ⟨o, q⟩ ⟨ho0, ho1, hq0, hq1, hh⟩ ih
      show VV X G A _ _ _ hL _ _ 53 [(0, sref am), (2, .inl q), (3, .inl o)] []
      refine v_iload_n (pc := 53) hO dX4_failing_53 rfl ?_
      refine v_aload_n (pc := 54) hO dX4_failing_54 rfl ?_
      refine v_getf (pc := 55) (v := sref (ad 2)) hO cp_X4 2 q2127 hr.ob (by decide) rfl dX4_failing_55 ?_
      refine v_iconst (pc := 58) hO dX4_failing_58 ?_
      refine r_iald (pc := 59) (w := M 4) (L := 3934) hO hr 2 ri_2 rfl (congrFun h2a _) (by omega) (by omega) dX4_failing_59 ?_
      refine v_icmp_ge (pc := 60) (tgt := 110) hO dX4_failing_60 (by decide) (by first | assumption | exact hr.zA 0 _ | exact hr.zA 8 _ | exact hr.zA 9 _ | exact hr.zS _ | exact hMz _ | exact hMz1 _ | exact zw_R _ | (unfold zR; omega)) (by first | assumption | exact hr.zA 0 _ | exact hr.zA 8 _ | exact hr.zA 9 _ | exact hr.zS _ | exact hMz _ | exact hMz1 _ | exact zw_R _ | (unfold zR; omega)) (fun c60 => ?_) (fun c60 => ?_)
      · refine v_aload_n (pc := 110) hO dX4_failing_110 rfl ?_
        refine v_callV (pc := 111) (b := am) hO cp_X4 hr.ob (m_end hr hA M h2a hMz) (lw_V q2439 q2441 qs68 q117 q2442) yo_X4_end rfl rfl rfl (by decide) (by decide) (k2 := 0) (n2 := 0) (by decide) (by decide) (by decide) (by decide) dX4_failing_111 (fun va hv hp hf1 => ?_)
        obtain ⟨rfl, hr⟩ := hp
        refine v_iload_n (pc := 114) hO dX4_failing_114 rfl ?_
        exact v_iret hO dX4_failing_115 rfl (Nat.le_of_ble_eq_true rfl) (Nat.le_of_ble_eq_true rfl) (Or.inl ⟨by omega, congrArg (fun z => some (Sum.inl z)) (by have e9 := cntI_e (p := flgP M (psN M t)) (show M 4 ≤ o by omega); omega), _, hr, hsc⟩)
      · refine v_aload_n (pc := 63) hO dX4_failing_63 rfl ?_
        refine v_iload_n (pc := 64) hO dX4_failing_64 rfl ?_
        refine v_iconst (pc := 65) hO dX4_failing_65 ?_
        refine v_callV (pc := 66) (b := am) hO cp_X4 hr.ob (m_ofOrder hr o 3 (by omega) (by omega)) (lw_V q2245 q2247 qs38 q117 q2248) yo_X4_ofOrder rfl rfl rfl (by decide) (by decide) (k2 := 0) (n2 := 0) (by decide) (by decide) (by decide) (by decide) dX4_failing_66 (fun va hv hp hf1 => ?_)
        obtain ⟨rfl, rfl⟩ := hp
        refine v_istore (pc := 69) hO (lv' := [(4, .inl (M1 (64 + 10 * o + 3))), (0, sref am), (2, .inl q), (3, .inl o)]) dX4_failing_69 (by decide) rfl ?_
        refine v_iload_n (pc := 71) hO dX4_failing_71 rfl ?_
        refine v_aload_n (pc := 72) hO dX4_failing_72 rfl ?_
        refine v_getf (pc := 73) (v := sref (ad 2)) hO cp_X4 2 q2127 hr.ob (by decide) rfl dX4_failing_73 ?_
        refine v_iload_n (pc := 76) hO dX4_failing_76 rfl ?_
        refine v_iconst (pc := 77) hO dX4_failing_77 ?_
        refine v_callS (pc := 78) hO (m_orderAt o 3) (lw_S q2249 q2250 q117 q2251) yo_X4_orderAt rfl rfl (by decide) (by decide) (k2 := 0) (n2 := 0) (by decide) (by decide) (by decide) (by decide) dX4_failing_78 (fun va hv hp hf1 => ?_)
        obtain ⟨rfl, rfl⟩ := hp
        refine r_iald (pc := 81) (w := M (64 + 10 * o + 3)) (L := 3934) hO hr 2 ri_2 rfl (congrFun h2a _) (by omega) (by omega) dX4_failing_81 ?_
        refine v_if_ne (pc := 82) (tgt := 101) hO dX4_failing_82 (by decide) (by first | assumption | exact hr.zA 0 _ | exact hr.zA 8 _ | exact hr.zA 9 _ | exact hr.zS _ | exact hMz _ | exact hMz1 _ | exact zw_R _ | (unfold zR; omega)) (fun c82 => ?_) (fun c82 => ?_)
        · refine v_iconst (pc := 101) hO dX4_failing_101 ?_
          refine v_iadd (pc := 102) hO dX4_failing_102 ?_
          refine v_istore_n (pc := 103) hO (lv' := [(2, .inl (q + 0)), (4, .inl (M1 (64 + 10 * o + 3))), (0, sref am), (3, .inl o)]) dX4_failing_103 (by decide) rfl ?_
          refine v_iinc (pc := 104) hO (lv' := [(3, .inl (o + 1)), (2, .inl (q + 0)), (4, .inl (M1 (64 + 10 * o + 3))), (0, sref am)]) dX4_failing_104 rfl (by decide) rfl ?_
          refine v_goto (pc := 107) (tgt := 53) hO dX4_failing_107 (by decide) ?_
          refine v_pick (lv2 := [(0, sref am), (2, .inl ((q + 0))), (3, .inl ((o + 1)))]) [3, 1, 0] rfl ?_
          exact ih (o + 1, q + 0) ⟨(by omega), (by omega), (by omega), (by omega), (by have e9 := cntI_n (p := flgP M (psN M t)) (show o < M 4 by omega) (fun e => absurd (of_decide_eq_true e) (by rw [eP]; omega)); omega)⟩ (by show (M 4 - (o + 1)).toNat < (M 4 - o).toNat; omega)
        · refine v_iload (pc := 85) hO dX4_failing_85 rfl ?_
          refine v_iconst (pc := 87) hO dX4_failing_87 ?_
          refine v_icmp_eq (pc := 88) (tgt := 97) hO dX4_failing_88 (by decide) (by first | assumption | exact hr.zA 0 _ | exact hr.zA 8 _ | exact hr.zA 9 _ | exact hr.zS _ | exact hMz _ | exact hMz1 _ | exact zw_R _ | (unfold zR; omega)) (by first | assumption | exact hr.zA 0 _ | exact hr.zA 8 _ | exact hr.zA 9 _ | exact hr.zS _ | exact hMz _ | exact hMz1 _ | exact zw_R _ | (unfold zR; omega)) (fun c88 => ?_) (fun c88 => ?_)
          · refine v_iconst (pc := 97) hO dX4_failing_97 ?_
            refine v_goto (pc := 98) (tgt := 102) hO dX4_failing_98 (by decide) ?_
            refine v_iadd (pc := 102) hO dX4_failing_102 ?_
            refine v_istore_n (pc := 103) hO (lv' := [(2, .inl (q + 1)), (4, .inl (M1 (64 + 10 * o + 3))), (0, sref am), (3, .inl o)]) dX4_failing_103 (by decide) rfl ?_
            refine v_iinc (pc := 104) hO (lv' := [(3, .inl (o + 1)), (2, .inl (q + 1)), (4, .inl (M1 (64 + 10 * o + 3))), (0, sref am)]) dX4_failing_104 rfl (by decide) rfl ?_
            refine v_goto (pc := 107) (tgt := 53) hO dX4_failing_107 (by decide) ?_
            refine v_pick (lv2 := [(0, sref am), (2, .inl ((q + 1))), (3, .inl ((o + 1)))]) [3, 1, 0] rfl ?_
            exact ih (o + 1, q + 1) ⟨(by omega), (by omega), (by omega), (by omega), (by have e9 := cntI_y (p := flgP M (psN M t)) (show o < M 4 by omega) (decide_eq_true (by rw [eP]; omega)); omega)⟩ (by show (M 4 - (o + 1)).toNat < (M 4 - o).toNat; omega)
          · refine v_iload (pc := 91) hO dX4_failing_91 rfl ?_
            refine v_iconst (pc := 93) hO dX4_failing_93 ?_
            refine v_icmp_ne (pc := 94) (tgt := 101) hO dX4_failing_94 (by decide) (by first | assumption | exact hr.zA 0 _ | exact hr.zA 8 _ | exact hr.zA 9 _ | exact hr.zS _ | exact hMz _ | exact hMz1 _ | exact zw_R _ | (unfold zR; omega)) (by first | assumption | exact hr.zA 0 _ | exact hr.zA 8 _ | exact hr.zA 9 _ | exact hr.zS _ | exact hMz _ | exact hMz1 _ | exact zw_R _ | (unfold zR; omega)) (fun c94 => ?_) (fun c94 => ?_)
            · refine v_iconst (pc := 101) hO dX4_failing_101 ?_
              refine v_iadd (pc := 102) hO dX4_failing_102 ?_
              refine v_istore_n (pc := 103) hO (lv' := [(2, .inl (q + 0)), (4, .inl (M1 (64 + 10 * o + 3))), (0, sref am), (3, .inl o)]) dX4_failing_103 (by decide) rfl ?_
              refine v_iinc (pc := 104) hO (lv' := [(3, .inl (o + 1)), (2, .inl (q + 0)), (4, .inl (M1 (64 + 10 * o + 3))), (0, sref am)]) dX4_failing_104 rfl (by decide) rfl ?_
              refine v_goto (pc := 107) (tgt := 53) hO dX4_failing_107 (by decide) ?_
              refine v_pick (lv2 := [(0, sref am), (2, .inl ((q + 0))), (3, .inl ((o + 1)))]) [3, 1, 0] rfl ?_
              exact ih (o + 1, q + 0) ⟨(by omega), (by omega), (by omega), (by omega), (by have e9 := cntI_n (p := flgP M (psN M t)) (show o < M 4 by omega) (fun e => absurd (of_decide_eq_true e) (by rw [eP]; omega)); omega)⟩ (by show (M 4 - (o + 1)).toNat < (M 4 - o).toNat; omega)
            · refine v_iconst (pc := 97) hO dX4_failing_97 ?_
              refine v_goto (pc := 98) (tgt := 102) hO dX4_failing_98 (by decide) ?_
              refine v_iadd (pc := 102) hO dX4_failing_102 ?_
              refine v_istore_n (pc := 103) hO (lv' := [(2, .inl (q + 1)), (4, .inl (M1 (64 + 10 * o + 3))), (0, sref am), (3, .inl o)]) dX4_failing_103 (by decide) rfl ?_
              refine v_iinc (pc := 104) hO (lv' := [(3, .inl (o + 1)), (2, .inl (q + 1)), (4, .inl (M1 (64 + 10 * o + 3))), (0, sref am)]) dX4_failing_104 rfl (by decide) rfl ?_
              refine v_goto (pc := 107) (tgt := 53) hO dX4_failing_107 (by decide) ?_
              refine v_pick (lv2 := [(0, sref am), (2, .inl ((q + 1))), (3, .inl ((o + 1)))]) [3, 1, 0] rfl ?_
              exact ih (o + 1, q + 1) ⟨(by omega), (by omega), (by omega), (by omega), (by have e9 := cntI_y (p := flgP M (psN M t)) (show o < M 4 by omega) (decide_eq_true (by rw [eP]; omega)); omega)⟩ (by show (M 4 - (o + 1)).toNat < (M 4 - o).toNat; omega)
    · refine v_aload_n (pc := 39) hO dX4_failing_39 rfl ?_
      refine v_callV (pc := 40) (b := am) hO cp_X4 hr.ob (m_passTurn hr hA hB (by omega)) (lw_V q2395 q2397 qs57 q117 q2398) yo_X4_passTurn rfl rfl rfl (by decide) (by decide) (k2 := 0) (n2 := 0) (by decide) (by decide) (by decide) (by decide) dX4_failing_40 (fun va hv hp hf1 => ?_)
      obtain ⟨rfl, Ar_2, hr, hsAr_2⟩ := hp
      have a2Ar_2 := (hsAr_2 2 (by decide) (by decide) (by decide)).trans h2a
      have hsAr_2 := hsAr_2.s2.tr hsc
      refine v_iinc (pc := 43) hO (lv' := [(2, .inl (k + 1)), (0, sref am), (1, .inl t)]) dX4_failing_43 rfl (by decide) rfl ?_
      refine v_goto (pc := 46) (tgt := 34) hO dX4_failing_46 (by decide) ?_
      refine v_pick (lv2 := [(0, sref am), (1, .inl t), (2, .inl ((k + 1)))]) [1, 2, 0] rfl ?_
      exact ih (k + 1, pasM M1, Ar_2, _) ⟨(by omega), (by omega), (pasM_Bq hB (by omega)).1, hr, hsAr_2, (hg.trans (itI_s (by omega))), (by rw [(pasM_Bq hB (by omega)).2.1]; omega), a2Ar_2⟩ (by show (t - (k + 1)).toNat < (t - k).toNat; omega)
