/-! THE REFERENCE'S READERS: start, finish, words -/
set_option maxRecDepth 100000
theorem StS.start {S : Nat → Int} {B : Int → Int} {L : Int} (e1 : S 14 = L) (e2 : S 15 = 0) (e3 : S 18 = 0) (h0 : 0 ≤ L) (h1 : L ≤ 600) : StS (rS (rS (rS S 15 (tN B (S 14) (S 15))) 16 (tB B (S 14) (S 15))) 17 (tK B (S 14) (S 15))) B L (0, 0, 0) := by
  subst e1
  have n1 := tN_in (B := B) (show S 15 ≤ S 14 by omega)
  have n2 := tB_in (B := B) (show S 15 ≤ S 14 by omega)
  have n3 := tK_in B (S 14) (S 15)
  exact ⟨rfl, h0, h1, e3, ⟨by show 0 ≤ tB B (S 14) (S 15); omega, n1⟩, n3, fun z => tN_dg (by omega) z, fun _ => ⟨Int.le_refl _, h0, congrArg (tN B (S 14)) e2, congrArg (tB B (S 14)) e2, congrArg (tK B (S 14)) e2⟩, fun z => absurd rfl z⟩
theorem chkP_b {B : Int → Int} {L c : Int} {P : Prop} [Decidable P] {x : P3} : chkP B L (b2i (decide P) ≠ 0) c x = chkP B L P c x := by
  unfold chkP
  by_cases h : P
  · rw [if_pos h, if_pos (by rw [b2i_t h]; decide)]
  · rw [if_neg h, if_neg (by rw [b2i_f h]; decide)]
abbrev neQ (B : Int → Int) (b : Int) (bs : List Int) (k : Int) : Bool := decide (B (b + k) ≠ bs.getD k.toNat 0)
def wrdB (B : Int → Int) (L : Int) (x : P3) (bs : List Int) : Bool := decide (x.2.1 = 0 ∧ tK B L x.1 = 1 ∧ (bs.length : Int) = tN B L x.1 - tB B L x.1) && !anyI (neQ B (tB B L x.1) bs) ((bs.length : Int) - 0).toNat 0
abbrev wrdP (B : Int → Int) (L : Int) (bs : List Int) (x : P3) : Prop := wrdB B L x bs = true
theorem yo_X4_startText : yOK yX4_startText 1 := by unfold yOK; exact ⟨by decide +kernel, by decide +kernel, by decide +kernel⟩
set_option maxRecDepth 100000 in
theorem m_startText {G : GT} {h : AH} {am : Nat} {ad : Nat → Nat} {nmf : Int → Option Nat} {S : Nat → Int} {Ar : Nat → Int → Int} {M : Int → Int} (hr : RefAt G h am ad nmf S (rA Ar 0 M)) {A : Nat → Prop} (hA : ∀ q, RA am ad q → A q) (L : Int) (zL : zR L) (h0 : 0 ≤ L) (h1 : L ≤ 600) : CC G yX4_startText cX4_startText 2 (none) ({ frames := 4, cells := 0, slots := 0, locals := 74 } : Room) A [sref am, .inl L] h (fun v h1 => v = none ∧ ∃ S2, RefAt G h1 am ad nmf S2 (rA Ar 0 M) ∧ ScF S2 (rS (rS S 14 L) 21 0) ∧ StS S2 (Ar 12) L (0, 0, 0) ∧ S2 21 = 0) := by
  refine CC.of (by decide +kernel) [(0, sref am), (1, .inl L)] rfl (Nat.le_of_ble_eq_true rfl) (fun X hnm hO => ?_)
  have hMz : ∀ z, zR (M z) := fun z => hr.zA 0 z
  have hMz : ∀ z, zR (M z) := fun z => hr.zA 0 z
  have hBz : ∀ z, zR (Ar 12 z) := fun z => hr.zA 12 z
  have hSz : ∀ z, zR (S z) := fun z => hr.zS z
  refine v_aload_n (pc := 0) hO dX4_startText_0 rfl ?_
  refine v_iload_n (pc := 1) hO dX4_startText_1 rfl ?_
  refine r_puti (pc := 2) (S2 := (rS S 14 L)) hO hr hA 14 rn_14 q2139 rfl (by first | assumption | exact hSz _ | exact hBz _ | exact bytz _ | exact hr.zS 14 | exact hr.zS 15 | exact hr.zS 16 | (unfold zR; omega)) dX4_startText_2 (fun h hr => ?_)
  refine v_aload_n (pc := 5) hO dX4_startText_5 rfl ?_
  refine v_iconst (pc := 6) hO dX4_startText_6 ?_
  refine r_puti (pc := 7) (S2 := (rS (rS S 14 L) 15 0)) hO hr hA 15 rn_15 q2140 rfl (by first | assumption | exact hSz _ | exact hBz _ | exact bytz _ | exact hr.zS 14 | exact hr.zS 15 | exact hr.zS 16 | (unfold zR; omega)) dX4_startText_7 (fun h hr => ?_)
  refine v_aload_n (pc := 10) hO dX4_startText_10 rfl ?_
  refine v_iconst (pc := 11) hO dX4_startText_11 ?_
  refine r_puti (pc := 12) (S2 := (rS (rS (rS S 14 L) 15 0) 18 0)) hO hr hA 18 rn_18 q2143 rfl (by first | assumption | exact hSz _ | exact hBz _ | exact bytz _ | exact hr.zS 14 | exact hr.zS 15 | exact hr.zS 16 | (unfold zR; omega)) dX4_startText_12 (fun h hr => ?_)
  refine v_aload_n (pc := 15) hO dX4_startText_15 rfl ?_
  refine v_iconst (pc := 16) hO dX4_startText_16 ?_
  refine r_puti (pc := 17) (S2 := (rS (rS (rS (rS S 14 L) 15 0) 18 0) 21 0)) hO hr hA 21 rn_21 q2146 rfl (by first | assumption | exact hSz _ | exact hBz _ | exact bytz _ | exact hr.zS 14 | exact hr.zS 15 | exact hr.zS 16 | (unfold zR; omega)) dX4_startText_17 (fun h hr => ?_)
  refine v_aload_n (pc := 20) hO dX4_startText_20 rfl ?_
  refine v_callV (pc := 21) (b := am) hO cp_X4 hr.ob (m_scan hr hA (show 0 ≤ L from h0) (show L ≤ 600 from h1) (show (0 : Int) ≤ 0 from Int.le_refl _) (show 0 ≤ L from h0)) (lw_V q2555 q2557 qs77 q117 q2558) yo_X4_scan rfl rfl rfl (by decide) (by decide) (k2 := 0) (n2 := 0) (by decide) (by decide) (by decide) (by decide) dX4_startText_21 (fun va hv hp hf1 => ?_)
  obtain ⟨rfl, hr⟩ := hp
  exact v_vret hO dX4_startText_24 rfl (Nat.le_of_ble_eq_true rfl) (Nat.le_of_ble_eq_true rfl) ⟨rfl, _, hr, (fun j a1 a2 a3 a4 a5 => by unfold rS; (repeat' split) <;> first | rfl | omega), StS.start rfl rfl rfl h0 h1, rfl⟩
theorem yo_X4_finish : yOK yX4_finish 0 := by unfold yOK; exact ⟨by decide +kernel, by decide +kernel, by decide +kernel⟩
set_option maxRecDepth 100000 in
theorem m_finish {G : GT} {h : AH} {am : Nat} {ad : Nat → Nat} {nmf : Int → Option Nat} {S : Nat → Int} {Ar : Nat → Int → Int} {M : Int → Int} {L : Int} (hr : RefAt G h am ad nmf S (rA Ar 0 M)) {A : Nat → Prop} (hA : ∀ q, RA am ad q → A q) (x : P3) (hx : StS S (Ar 12) L x) : CC G yX4_finish cX4_finish 1 (some .int) ({ frames := 1, cells := 0, slots := 0, locals := 12 } : Room) A [sref am] h (fun v h1 => v = some (.inl x.2.1) ∧ RefAt G h1 am ad nmf (rS (rS S 13 0) 20 (if x.2.1 = 0 then -1 else x.2.2)) (rA Ar 0 M)) := by
  refine CC.of (by decide +kernel) [(0, sref am)] rfl (Nat.le_of_ble_eq_true rfl) (fun X hnm hO => ?_)
  have hMz : ∀ z, zR (M z) := fun z => hr.zA 0 z
  have hMz : ∀ z, zR (M z) := fun z => hr.zA 0 z
  have hBz : ∀ z, zR (Ar 12 z) := fun z => hr.zA 12 z
  have hSz : ∀ z, zR (S z) := fun z => hr.zS z
  refine v_aload_n (pc := 0) hO dX4_finish_0 rfl ?_
  refine v_iconst (pc := 1) hO dX4_finish_1 ?_
  refine r_puti (pc := 2) (S2 := (rS S 13 0)) hO hr hA 13 rn_13 q2138 rfl (by first | assumption | exact hSz _ | (unfold zR; omega)) dX4_finish_2 (fun h hr => ?_)
  refine v_aload_n (pc := 5) hO dX4_finish_5 rfl ?_
  refine v_aload_n (pc := 6) hO dX4_finish_6 rfl ?_
  refine v_getf (pc := 7) (v := .inl (S 18)) hO cp_X4 18 q2143 hr.ob (by decide) rfl dX4_finish_7 ?_
  refine v_if_ne (pc := 10) (tgt := 17) hO dX4_finish_10 (by decide) (by first | assumption | exact hSz _ | (unfold zR; omega)) (fun c10 => ?_) (fun c10 => ?_)
  · refine v_aload_n (pc := 17) hO dX4_finish_17 rfl ?_
    refine v_getf (pc := 18) (v := .inl (S 19)) hO cp_X4 19 q2144 hr.ob (by decide) rfl dX4_finish_18 ?_
    refine r_puti (pc := 21) (S2 := (rS (rS S 13 0) 20 (S 19))) hO hr hA 20 rn_20 q2145 rfl (by first | assumption | exact hSz _ | (unfold zR; omega)) dX4_finish_21 (fun h hr => ?_)
    refine v_aload_n (pc := 24) hO dX4_finish_24 rfl ?_
    refine v_getf (pc := 25) (v := .inl (S 18)) hO cp_X4 18 q2143 hr.ob (by decide) rfl dX4_finish_25 ?_
    exact v_iret hO dX4_finish_28 rfl (Nat.le_of_ble_eq_true rfl) (Nat.le_of_ble_eq_true rfl) ⟨congrArg (fun z => some (Sum.inl z)) hx.2.2.2.1, by have e8 := hx.2.2.2.1; rw [if_neg (by omega)]; have e9 := hx.2.2.2.2.2.2.2.2 (by omega); rw [← e9]; exact hr⟩
  · refine v_iconst (pc := 13) hO dX4_finish_13 ?_
    refine v_goto (pc := 14) (tgt := 21) hO dX4_finish_14 (by decide) ?_
    refine r_puti (pc := 21) (S2 := (rS (rS S 13 0) 20 ((-1)))) hO hr hA 20 rn_20 q2145 rfl (by first | assumption | exact hSz _ | (unfold zR; omega)) dX4_finish_21 (fun h hr => ?_)
    refine v_aload_n (pc := 24) hO dX4_finish_24 rfl ?_
    refine v_getf (pc := 25) (v := .inl (S 18)) hO cp_X4 18 q2143 hr.ob (by decide) rfl dX4_finish_25 ?_
    exact v_iret hO dX4_finish_28 rfl (Nat.le_of_ble_eq_true rfl) (Nat.le_of_ble_eq_true rfl) ⟨congrArg (fun z => some (Sum.inl z)) hx.2.2.2.1, by have e8 := hx.2.2.2.1; rw [if_pos (by omega)]; exact hr⟩
theorem yo_X4_expect : yOK yX4_expect 1 := by unfold yOK; exact ⟨by decide +kernel, by decide +kernel, by decide +kernel⟩
set_option maxRecDepth 100000 in
theorem m_expect {G : GT} {h : AH} {am : Nat} {ad : Nat → Nat} {nmf : Int → Option Nat} {S : Nat → Int} {Ar : Nat → Int → Int} {M : Int → Int} {L : Int} (hr : RefAt G h am ad nmf S (rA Ar 0 M)) {A : Nat → Prop} (hA : ∀ q, RA am ad q → A q) (x : P3) (hx : StS S (Ar 12) L x) (s : Int) (zs : zR s) : CC G yX4_expect cX4_expect 2 (none) ({ frames := 5, cells := 0, slots := 0, locals := 94 } : Room) A [sref am, .inl s] h (fun v h1 => v = none ∧ ∃ S2, RefAt G h1 am ad nmf S2 (rA Ar 0 M) ∧ ScF S2 S ∧ StS S2 (Ar 12) L (advP (Ar 12) L (chkP (Ar 12) L (symP (Ar 12) L s x) 1 x))) := by
  refine CC.of (by decide +kernel) [(0, sref am), (1, .inl s)] rfl (Nat.le_of_ble_eq_true rfl) (fun X hnm hO => ?_)
  have hMz : ∀ z, zR (M z) := fun z => hr.zA 0 z
  have hMz : ∀ z, zR (M z) := fun z => hr.zA 0 z
  have hBz : ∀ z, zR (Ar 12 z) := fun z => hr.zA 12 z
  have hSz : ∀ z, zR (S z) := fun z => hr.zS z
  refine v_aload_n (pc := 0) hO dX4_expect_0 rfl ?_
  refine v_aload_n (pc := 1) hO dX4_expect_1 rfl ?_
  refine v_iload_n (pc := 2) hO dX4_expect_2 rfl ?_
  refine v_callV (pc := 3) (b := am) hO cp_X4 hr.ob (m_isSymbol hr x hx s (by first | assumption | exact hSz _ | exact hBz _ | exact bytz _ | exact hr.zS 14 | exact hr.zS 15 | exact hr.zS 16 | (unfold zR; omega))) (lw_V q2616 q2618 qs90 q117 q2619) yo_X4_isSymbol rfl rfl rfl (by decide) (by decide) (k2 := 0) (n2 := 0) (by decide) (by decide) (by decide) (by decide) dX4_expect_3 (fun va hv hp hf1 => ?_)
  obtain ⟨rfl, rfl⟩ := hp
  refine v_iconst (pc := 6) hO dX4_expect_6 ?_
  refine v_callV (pc := 7) (b := am) hO cp_X4 hr.ob (m_check hr hA x hx (b2i (decide (symP (Ar 12) L s x))) 1 (by first | exact b2i_R _ | assumption | (unfold zR; omega)) (by first | exact b2i_R _ | assumption | (unfold zR; omega)) (by decide)) (lw_V q2586 q2588 qs84 q117 q2589) yo_X4_check rfl rfl rfl (by decide) (by decide) (k2 := 0) (n2 := 0) (by decide) (by decide) (by decide) (by decide) dX4_expect_7 (fun va hv hp hf1 => ?_)
  obtain ⟨rfl, S_1, hr, hsS_1, hx⟩ := hp
  have hsS_1 := hsS_1.tr (ScF.rf S)
  have hSz : ∀ z, zR (S_1 z) := fun z => hr.zS z
  refine v_aload_n (pc := 10) hO dX4_expect_10 rfl ?_
  refine v_callV (pc := 11) (b := am) hO cp_X4 hr.ob (m_advance hr hA (chkP (Ar 12) L ((b2i (decide (symP (Ar 12) L s x))) ≠ 0) 1 x) hx) (lw_V q2594 q2596 qs86 q117 q2597) yo_X4_advance rfl rfl rfl (by decide) (by decide) (k2 := 0) (n2 := 0) (by decide) (by decide) (by decide) (by decide) dX4_expect_11 (fun va hv hp hf1 => ?_)
  obtain ⟨rfl, S_2, hr, hsS_2, hx⟩ := hp
  have hsS_2 := hsS_2.tr (hsS_1)
  have hSz : ∀ z, zR (S_2 z) := fun z => hr.zS z
  exact v_vret hO dX4_expect_14 rfl (Nat.le_of_ble_eq_true rfl) (Nat.le_of_ble_eq_true rfl) ⟨rfl, _, hr, hsS_2, by rw [chkP_b] at hx; exact hx⟩
theorem yo_X4_isWord : yOK yX4_isWord 1 := by unfold yOK; exact ⟨by decide +kernel, by decide +kernel, by decide +kernel⟩
set_option maxRecDepth 100000 in
theorem m_isWord {G : GT} {h : AH} {am : Nat} {ad : Nat → Nat} {nmf : Int → Option Nat} {S : Nat → Int} {Ar : Nat → Int → Int} {M : Int → Int} {L : Int} (hr : RefAt G h am ad nmf S (rA Ar 0 M)) {A : Nat → Prop} (x : P3) (hx : StS S (Ar 12) L x) {t v : Nat} {bs : List Int} {hs0 hz0 : Int} (hs : StrV G h t v bs hs0 hz0) : CC G yX4_isWord cX4_isWord 4 (some .boolean) ({ frames := 5, cells := 0, slots := 0, locals := 97 } : Room) A [sref am, sref t] h (fun v h1 => v = some (.inl (b2i (decide (wrdP (Ar 12) L bs x)))) ∧ h = h1) := by
  refine CC.of (by decide +kernel) [(0, sref am), (1, sref t)] rfl (Nat.le_of_ble_eq_true rfl) (fun X hnm hO => ?_)
  have hMz : ∀ z, zR (M z) := fun z => hr.zA 0 z
  have hBz : ∀ z, zR (Ar 12 z) := fun z => hr.zA 12 z
  have hSz : ∀ z, zR (S z) := fun z => hr.zS z
  have ha := hs.1
  have hal := ha.1
  have hxl := hx.2.2.2.2.1
  have hxl2 := hx.2.2.1
  refine v_aload_n (pc := 0) hO dX4_isWord_0 rfl ?_
  refine v_getf (pc := 1) (v := .inl (S 18)) hO cp_X4 18 q2143 hr.ob (by decide) rfl dX4_isWord_1 ?_
  refine v_if_ne (pc := 4) (tgt := 35) hO dX4_isWord_4 (by decide) (by first | assumption | exact hSz _ | exact hBz _ | exact b2i_R _ | (unfold zR; omega)) (fun c4 => ?_) (fun c4 => ?_)
  · refine v_iconst (pc := 35) hO dX4_isWord_35 ?_
    refine v_istore_n (pc := 36) hO (lv' := [(2, .inl 0), (0, sref am), (1, sref t)]) dX4_isWord_36 (by decide) rfl ?_
    refine v_iconst (pc := 37) hO dX4_isWord_37 ?_
    refine v_istore_n (pc := 38) hO (lv' := [(3, .inl 0), (2, .inl 0), (0, sref am), (1, sref t)]) dX4_isWord_38 (by decide) rfl ?_
    refine v_pick (lv2 := [(0, sref am), (1, sref t), (2, .inl (b2i false)), (3, .inl 0)]) [2, 3, 1, 0] rfl ?_
    refine v_loop (σ := Int × Bool) (fun (k, E) => 0 ≤ k ∧ k ≤ (bs.length : Int) ∧ (E = true → x.2.1 = 0 ∧ S 17 = 1 ∧ (bs.length : Int) = S 15 - S 16) ∧ wrdB (Ar 12) L x bs = (E && !anyI (neQ (Ar 12) (tB (Ar 12) L x.1) bs) ((bs.length : Int) - k).toNat k)) (fun (k, E) => ((bs.length : Int) - k).toNat) (fun (k, E) => h) (fun (k, E) => [(0, sref am), (1, sref t), (2, .inl (b2i E)), (3, .inl k)]) (0, false) ⟨Int.le_refl _, (by omega), (fun e => by cases e), (by unfold wrdB; rw [decide_eq_false (p := x.2.1 = 0 ∧ tK (Ar 12) L x.1 = 1 ∧ (bs.length : Int) = tN (Ar 12) L x.1 - tB (Ar 12) L x.1) (by have e8 := hx.2.2.2.1; first | omega | (have e9 := hx.good (by omega); omega))])⟩ ?_
    rintro ⟨k, E⟩ ⟨hk0, hk1, hE, hg⟩ ih
    show VV X G A _ _ _ h _ _ 39 [(0, sref am), (1, sref t), (2, .inl (b2i E)), (3, .inl k)] []
    refine v_iload_n (pc := 39) hO dX4_isWord_39 rfl ?_
    refine v_if_eq (pc := 40) (tgt := 82) hO dX4_isWord_40 (by decide) (by first | assumption | exact hSz _ | exact hBz _ | exact b2i_R _ | (unfold zR; omega)) (fun c40 => ?_) (fun c40 => ?_)
    · refine v_iload_n (pc := 82) hO dX4_isWord_82 rfl ?_
      exact v_zret hO dX4_isWord_83 rfl (nar_z (b2i_c _)) (Nat.le_of_ble_eq_true rfl) (Nat.le_of_ble_eq_true rfl) ⟨congrArg (fun z => some (Sum.inl z)) (by rw [Bool.decide_eq_true, hg]; first | (rw [anyI_e (by omega)]; cases E <;> rfl) | (cases E with | false => rfl | true => exact absurd c40 (by decide))), rfl⟩
    · have hEt : E = true := (by cases E with | false => exact absurd rfl c40 | true => rfl)
      obtain ⟨q1, q2, q3⟩ := hE hEt
      have hgd := hx.good (by have := hx.2.2.2.1; omega)
      have hLb := hx.2.2.1
      have h16 := hx.2.2.2.2.1
      have e16k : Ar 12 (S 16 + k) = Ar 12 (tB (Ar 12) L x.1 + k) := (by rw [hgd.2.2.2.2.1])
      refine v_iload_n (pc := 43) hO dX4_isWord_43 rfl ?_
      refine v_aload_n (pc := 44) hO dX4_isWord_44 rfl ?_
      refine v_callVR (pc := 45) (b := t) hO hs.rcv (m_slength hs) (lw_V q2584 q512 q513 q127 q514) yo_J11_length rfl rfl rfl (by decide) (by decide) (k2 := 0) (n2 := 0) (by decide) (by decide) (by decide) (by decide) dX4_isWord_45 (fun va hv hp hf1 => ?_)
      obtain ⟨rfl, rfl⟩ := hp
      refine v_icmp_ge (pc := 48) (tgt := 82) hO dX4_isWord_48 (by decide) (by first | assumption | exact hSz _ | exact hBz _ | exact b2i_R _ | (unfold zR; omega)) (by first | assumption | exact hSz _ | exact hBz _ | exact b2i_R _ | (unfold zR; omega)) (fun c48 => ?_) (fun c48 => ?_)
      · refine v_iload_n (pc := 82) hO dX4_isWord_82 rfl ?_
        exact v_zret hO dX4_isWord_83 rfl (nar_z (b2i_c _)) (Nat.le_of_ble_eq_true rfl) (Nat.le_of_ble_eq_true rfl) ⟨congrArg (fun z => some (Sum.inl z)) (by rw [Bool.decide_eq_true, hg]; first | (rw [anyI_e (by omega)]; cases E <;> rfl) | (cases E with | false => rfl | true => exact absurd c48 (by decide))), rfl⟩
      · have hck := ha.2 k.toNat (by omega)
        refine v_aload_n (pc := 51) hO dX4_isWord_51 rfl ?_
        refine v_iload_n (pc := 52) hO dX4_isWord_52 rfl ?_
        refine v_callVR (pc := 53) (b := t) hO hs.rcv (m_scharAt hs k (by omega) (by omega)) (lw_V q2585 q525 q526 q127 q527) yo_J11_charAt rfl rfl rfl (by decide) (by decide) (k2 := 0) (n2 := 0) (by decide) (by decide) (by decide) (by decide) dX4_isWord_53 (fun va hv hp hf1 => ?_)
        obtain ⟨rfl, rfl⟩ := hp
        refine v_aload_n (pc := 56) hO dX4_isWord_56 rfl ?_
        refine v_getf (pc := 57) (v := sref (ad 12)) hO cp_X4 12 q2137 hr.ob (by decide) rfl dX4_isWord_57 ?_
        refine v_aload_n (pc := 60) hO dX4_isWord_60 rfl ?_
        refine v_getf (pc := 61) (v := .inl (S 16)) hO cp_X4 16 q2141 hr.ob (by decide) rfl dX4_isWord_61 ?_
        refine v_iload_n (pc := 64) hO dX4_isWord_64 rfl ?_
        refine v_iadd (pc := 65) hO dX4_isWord_65 ?_
        refine r_iald (pc := 66) (w := Ar 12 (S 16 + k)) (L := 600) hO hr 12 ri_12 rfl rfl (by omega) (by omega) dX4_isWord_66 ?_
        refine v_icmp_ne (pc := 67) (tgt := 74) hO dX4_isWord_67 (by decide) (by first | assumption | exact hSz _ | exact hBz _ | exact b2i_R _ | (unfold zR; omega)) (by first | assumption | exact hSz _ | exact hBz _ | exact b2i_R _ | (unfold zR; omega)) (fun c67 => ?_) (fun c67 => ?_)
        · refine v_iconst (pc := 74) hO dX4_isWord_74 ?_
          refine v_istore_n (pc := 75) hO (lv' := [(2, .inl 0), (0, sref am), (1, sref t), (3, .inl k)]) dX4_isWord_75 (by decide) rfl ?_
          refine v_iinc (pc := 76) hO (lv' := [(3, .inl (k + 1)), (2, .inl 0), (0, sref am), (1, sref t)]) dX4_isWord_76 rfl (by decide) rfl ?_
          refine v_goto (pc := 79) (tgt := 39) hO dX4_isWord_79 (by decide) ?_
          refine v_pick (lv2 := [(0, sref am), (1, sref t), (2, .inl (b2i false)), (3, .inl ((k + 1)))]) [2, 3, 1, 0] rfl ?_
          exact ih (k + 1, false) ⟨(by omega), (by omega), (fun e => by cases e), (by rw [hg, anyI_s (show k < (bs.length : Int) by omega), show neQ (Ar 12) (tB (Ar 12) L x.1) bs k = true from decide_eq_true (by omega)]; cases E <;> rfl)⟩ (by show ((bs.length : Int) - (k + 1)).toNat < ((bs.length : Int) - k).toNat; omega)
        · refine v_iconst (pc := 70) hO dX4_isWord_70 ?_
          refine v_goto (pc := 71) (tgt := 75) hO dX4_isWord_71 (by decide) ?_
          refine v_istore_n (pc := 75) hO (lv' := [(2, .inl 1), (0, sref am), (1, sref t), (3, .inl k)]) dX4_isWord_75 (by decide) rfl ?_
          refine v_iinc (pc := 76) hO (lv' := [(3, .inl (k + 1)), (2, .inl 1), (0, sref am), (1, sref t)]) dX4_isWord_76 rfl (by decide) rfl ?_
          refine v_goto (pc := 79) (tgt := 39) hO dX4_isWord_79 (by decide) ?_
          refine v_pick (lv2 := [(0, sref am), (1, sref t), (2, .inl (b2i true)), (3, .inl ((k + 1)))]) [2, 3, 1, 0] rfl ?_
          exact ih (k + 1, true) ⟨(by omega), (by omega), (fun _ => hE hEt), (by rw [hg, anyI_s (show k < (bs.length : Int) by omega), show neQ (Ar 12) (tB (Ar 12) L x.1) bs k = false from decide_eq_false (by omega), hEt]; rfl)⟩ (by show ((bs.length : Int) - (k + 1)).toNat < ((bs.length : Int) - k).toNat; omega)
  · refine v_aload_n (pc := 7) hO dX4_isWord_7 rfl ?_
    refine v_getf (pc := 8) (v := .inl (S 17)) hO cp_X4 17 q2142 hr.ob (by decide) rfl dX4_isWord_8 ?_
    refine v_iconst (pc := 11) hO dX4_isWord_11 ?_
    refine v_icmp_ne (pc := 12) (tgt := 35) hO dX4_isWord_12 (by decide) (by first | assumption | exact hSz _ | exact hBz _ | exact b2i_R _ | (unfold zR; omega)) (by first | assumption | exact hSz _ | exact hBz _ | exact b2i_R _ | (unfold zR; omega)) (fun c12 => ?_) (fun c12 => ?_)
    · refine v_iconst (pc := 35) hO dX4_isWord_35 ?_
      refine v_istore_n (pc := 36) hO (lv' := [(2, .inl 0), (0, sref am), (1, sref t)]) dX4_isWord_36 (by decide) rfl ?_
      refine v_iconst (pc := 37) hO dX4_isWord_37 ?_
      refine v_istore_n (pc := 38) hO (lv' := [(3, .inl 0), (2, .inl 0), (0, sref am), (1, sref t)]) dX4_isWord_38 (by decide) rfl ?_
      refine v_pick (lv2 := [(0, sref am), (1, sref t), (2, .inl (b2i false)), (3, .inl 0)]) [2, 3, 1, 0] rfl ?_
      refine v_loop (σ := Int × Bool) (fun (k, E) => 0 ≤ k ∧ k ≤ (bs.length : Int) ∧ (E = true → x.2.1 = 0 ∧ S 17 = 1 ∧ (bs.length : Int) = S 15 - S 16) ∧ wrdB (Ar 12) L x bs = (E && !anyI (neQ (Ar 12) (tB (Ar 12) L x.1) bs) ((bs.length : Int) - k).toNat k)) (fun (k, E) => ((bs.length : Int) - k).toNat) (fun (k, E) => h) (fun (k, E) => [(0, sref am), (1, sref t), (2, .inl (b2i E)), (3, .inl k)]) (0, false) ⟨Int.le_refl _, (by omega), (fun e => by cases e), (by unfold wrdB; rw [decide_eq_false (p := x.2.1 = 0 ∧ tK (Ar 12) L x.1 = 1 ∧ (bs.length : Int) = tN (Ar 12) L x.1 - tB (Ar 12) L x.1) (by have e8 := hx.2.2.2.1; first | omega | (have e9 := hx.good (by omega); omega))])⟩ ?_
      rintro ⟨k, E⟩ ⟨hk0, hk1, hE, hg⟩ ih
      show VV X G A _ _ _ h _ _ 39 [(0, sref am), (1, sref t), (2, .inl (b2i E)), (3, .inl k)] []
      refine v_iload_n (pc := 39) hO dX4_isWord_39 rfl ?_
      refine v_if_eq (pc := 40) (tgt := 82) hO dX4_isWord_40 (by decide) (by first | assumption | exact hSz _ | exact hBz _ | exact b2i_R _ | (unfold zR; omega)) (fun c40 => ?_) (fun c40 => ?_)
      · refine v_iload_n (pc := 82) hO dX4_isWord_82 rfl ?_
        exact v_zret hO dX4_isWord_83 rfl (nar_z (b2i_c _)) (Nat.le_of_ble_eq_true rfl) (Nat.le_of_ble_eq_true rfl) ⟨congrArg (fun z => some (Sum.inl z)) (by rw [Bool.decide_eq_true, hg]; first | (rw [anyI_e (by omega)]; cases E <;> rfl) | (cases E with | false => rfl | true => exact absurd c40 (by decide))), rfl⟩
      · have hEt : E = true := (by cases E with | false => exact absurd rfl c40 | true => rfl)
        obtain ⟨q1, q2, q3⟩ := hE hEt
        have hgd := hx.good (by have := hx.2.2.2.1; omega)
        have hLb := hx.2.2.1
        have h16 := hx.2.2.2.2.1
        have e16k : Ar 12 (S 16 + k) = Ar 12 (tB (Ar 12) L x.1 + k) := (by rw [hgd.2.2.2.2.1])
        refine v_iload_n (pc := 43) hO dX4_isWord_43 rfl ?_
        refine v_aload_n (pc := 44) hO dX4_isWord_44 rfl ?_
        refine v_callVR (pc := 45) (b := t) hO hs.rcv (m_slength hs) (lw_V q2584 q512 q513 q127 q514) yo_J11_length rfl rfl rfl (by decide) (by decide) (k2 := 0) (n2 := 0) (by decide) (by decide) (by decide) (by decide) dX4_isWord_45 (fun va hv hp hf1 => ?_)
        obtain ⟨rfl, rfl⟩ := hp
        refine v_icmp_ge (pc := 48) (tgt := 82) hO dX4_isWord_48 (by decide) (by first | assumption | exact hSz _ | exact hBz _ | exact b2i_R _ | (unfold zR; omega)) (by first | assumption | exact hSz _ | exact hBz _ | exact b2i_R _ | (unfold zR; omega)) (fun c48 => ?_) (fun c48 => ?_)
        · refine v_iload_n (pc := 82) hO dX4_isWord_82 rfl ?_
          exact v_zret hO dX4_isWord_83 rfl (nar_z (b2i_c _)) (Nat.le_of_ble_eq_true rfl) (Nat.le_of_ble_eq_true rfl) ⟨congrArg (fun z => some (Sum.inl z)) (by rw [Bool.decide_eq_true, hg]; first | (rw [anyI_e (by omega)]; cases E <;> rfl) | (cases E with | false => rfl | true => exact absurd c48 (by decide))), rfl⟩
        · have hck := ha.2 k.toNat (by omega)
          refine v_aload_n (pc := 51) hO dX4_isWord_51 rfl ?_
          refine v_iload_n (pc := 52) hO dX4_isWord_52 rfl ?_
          refine v_callVR (pc := 53) (b := t) hO hs.rcv (m_scharAt hs k (by omega) (by omega)) (lw_V q2585 q525 q526 q127 q527) yo_J11_charAt rfl rfl rfl (by decide) (by decide) (k2 := 0) (n2 := 0) (by decide) (by decide) (by decide) (by decide) dX4_isWord_53 (fun va hv hp hf1 => ?_)
          obtain ⟨rfl, rfl⟩ := hp
          refine v_aload_n (pc := 56) hO dX4_isWord_56 rfl ?_
          refine v_getf (pc := 57) (v := sref (ad 12)) hO cp_X4 12 q2137 hr.ob (by decide) rfl dX4_isWord_57 ?_
          refine v_aload_n (pc := 60) hO dX4_isWord_60 rfl ?_
          refine v_getf (pc := 61) (v := .inl (S 16)) hO cp_X4 16 q2141 hr.ob (by decide) rfl dX4_isWord_61 ?_
          refine v_iload_n (pc := 64) hO dX4_isWord_64 rfl ?_
          refine v_iadd (pc := 65) hO dX4_isWord_65 ?_
          refine r_iald (pc := 66) (w := Ar 12 (S 16 + k)) (L := 600) hO hr 12 ri_12 rfl rfl (by omega) (by omega) dX4_isWord_66 ?_
          refine v_icmp_ne (pc := 67) (tgt := 74) hO dX4_isWord_67 (by decide) (by first | assumption | exact hSz _ | exact hBz _ | exact b2i_R _ | (unfold zR; omega)) (by first | assumption | exact hSz _ | exact hBz _ | exact b2i_R _ | (unfold zR; omega)) (fun c67 => ?_) (fun c67 => ?_)
          · refine v_iconst (pc := 74) hO dX4_isWord_74 ?_
            refine v_istore_n (pc := 75) hO (lv' := [(2, .inl 0), (0, sref am), (1, sref t), (3, .inl k)]) dX4_isWord_75 (by decide) rfl ?_
            refine v_iinc (pc := 76) hO (lv' := [(3, .inl (k + 1)), (2, .inl 0), (0, sref am), (1, sref t)]) dX4_isWord_76 rfl (by decide) rfl ?_
            refine v_goto (pc := 79) (tgt := 39) hO dX4_isWord_79 (by decide) ?_
            refine v_pick (lv2 := [(0, sref am), (1, sref t), (2, .inl (b2i false)), (3, .inl ((k + 1)))]) [2, 3, 1, 0] rfl ?_
            exact ih (k + 1, false) ⟨(by omega), (by omega), (fun e => by cases e), (by rw [hg, anyI_s (show k < (bs.length : Int) by omega), show neQ (Ar 12) (tB (Ar 12) L x.1) bs k = true from decide_eq_true (by omega)]; cases E <;> rfl)⟩ (by show ((bs.length : Int) - (k + 1)).toNat < ((bs.length : Int) - k).toNat; omega)
          · refine v_iconst (pc := 70) hO dX4_isWord_70 ?_
            refine v_goto (pc := 71) (tgt := 75) hO dX4_isWord_71 (by decide) ?_
            refine v_istore_n (pc := 75) hO (lv' := [(2, .inl 1), (0, sref am), (1, sref t), (3, .inl k)]) dX4_isWord_75 (by decide) rfl ?_
            refine v_iinc (pc := 76) hO (lv' := [(3, .inl (k + 1)), (2, .inl 1), (0, sref am), (1, sref t)]) dX4_isWord_76 rfl (by decide) rfl ?_
            refine v_goto (pc := 79) (tgt := 39) hO dX4_isWord_79 (by decide) ?_
            refine v_pick (lv2 := [(0, sref am), (1, sref t), (2, .inl (b2i true)), (3, .inl ((k + 1)))]) [2, 3, 1, 0] rfl ?_
            exact ih (k + 1, true) ⟨(by omega), (by omega), (fun _ => hE hEt), (by rw [hg, anyI_s (show k < (bs.length : Int) by omega), show neQ (Ar 12) (tB (Ar 12) L x.1) bs k = false from decide_eq_false (by omega), hEt]; rfl)⟩ (by show ((bs.length : Int) - (k + 1)).toNat < ((bs.length : Int) - k).toNat; omega)
    · refine v_aload_n (pc := 15) hO dX4_isWord_15 rfl ?_
      refine v_callVR (pc := 16) (b := t) hO hs.rcv (m_slength hs) (lw_V q2584 q512 q513 q127 q514) yo_J11_length rfl rfl rfl (by decide) (by decide) (k2 := 0) (n2 := 0) (by decide) (by decide) (by decide) (by decide) dX4_isWord_16 (fun va hv hp hf1 => ?_)
      obtain ⟨rfl, rfl⟩ := hp
      refine v_aload_n (pc := 19) hO dX4_isWord_19 rfl ?_
      refine v_getf (pc := 20) (v := .inl (S 15)) hO cp_X4 15 q2140 hr.ob (by decide) rfl dX4_isWord_20 ?_
      refine v_aload_n (pc := 23) hO dX4_isWord_23 rfl ?_
      refine v_getf (pc := 24) (v := .inl (S 16)) hO cp_X4 16 q2141 hr.ob (by decide) rfl dX4_isWord_24 ?_
      refine v_isub (pc := 27) hO dX4_isWord_27 ?_
      refine v_icmp_ne (pc := 28) (tgt := 35) hO dX4_isWord_28 (by decide) (by first | assumption | exact hSz _ | exact hBz _ | exact b2i_R _ | (unfold zR; omega)) (by first | assumption | exact hSz _ | exact hBz _ | exact b2i_R _ | (unfold zR; omega)) (fun c28 => ?_) (fun c28 => ?_)
      · refine v_iconst (pc := 35) hO dX4_isWord_35 ?_
        refine v_istore_n (pc := 36) hO (lv' := [(2, .inl 0), (0, sref am), (1, sref t)]) dX4_isWord_36 (by decide) rfl ?_
        refine v_iconst (pc := 37) hO dX4_isWord_37 ?_
        refine v_istore_n (pc := 38) hO (lv' := [(3, .inl 0), (2, .inl 0), (0, sref am), (1, sref t)]) dX4_isWord_38 (by decide) rfl ?_
        refine v_pick (lv2 := [(0, sref am), (1, sref t), (2, .inl (b2i false)), (3, .inl 0)]) [2, 3, 1, 0] rfl ?_
        refine v_loop (σ := Int × Bool) (fun (k, E) => 0 ≤ k ∧ k ≤ (bs.length : Int) ∧ (E = true → x.2.1 = 0 ∧ S 17 = 1 ∧ (bs.length : Int) = S 15 - S 16) ∧ wrdB (Ar 12) L x bs = (E && !anyI (neQ (Ar 12) (tB (Ar 12) L x.1) bs) ((bs.length : Int) - k).toNat k)) (fun (k, E) => ((bs.length : Int) - k).toNat) (fun (k, E) => h) (fun (k, E) => [(0, sref am), (1, sref t), (2, .inl (b2i E)), (3, .inl k)]) (0, false) ⟨Int.le_refl _, (by omega), (fun e => by cases e), (by unfold wrdB; rw [decide_eq_false (p := x.2.1 = 0 ∧ tK (Ar 12) L x.1 = 1 ∧ (bs.length : Int) = tN (Ar 12) L x.1 - tB (Ar 12) L x.1) (by have e8 := hx.2.2.2.1; first | omega | (have e9 := hx.good (by omega); omega))])⟩ ?_
        rintro ⟨k, E⟩ ⟨hk0, hk1, hE, hg⟩ ih
        show VV X G A _ _ _ h _ _ 39 [(0, sref am), (1, sref t), (2, .inl (b2i E)), (3, .inl k)] []
        refine v_iload_n (pc := 39) hO dX4_isWord_39 rfl ?_
        refine v_if_eq (pc := 40) (tgt := 82) hO dX4_isWord_40 (by decide) (by first | assumption | exact hSz _ | exact hBz _ | exact b2i_R _ | (unfold zR; omega)) (fun c40 => ?_) (fun c40 => ?_)
        · refine v_iload_n (pc := 82) hO dX4_isWord_82 rfl ?_
          exact v_zret hO dX4_isWord_83 rfl (nar_z (b2i_c _)) (Nat.le_of_ble_eq_true rfl) (Nat.le_of_ble_eq_true rfl) ⟨congrArg (fun z => some (Sum.inl z)) (by rw [Bool.decide_eq_true, hg]; first | (rw [anyI_e (by omega)]; cases E <;> rfl) | (cases E with | false => rfl | true => exact absurd c40 (by decide))), rfl⟩
        · have hEt : E = true := (by cases E with | false => exact absurd rfl c40 | true => rfl)
          obtain ⟨q1, q2, q3⟩ := hE hEt
          have hgd := hx.good (by have := hx.2.2.2.1; omega)
          have hLb := hx.2.2.1
          have h16 := hx.2.2.2.2.1
          have e16k : Ar 12 (S 16 + k) = Ar 12 (tB (Ar 12) L x.1 + k) := (by rw [hgd.2.2.2.2.1])
          refine v_iload_n (pc := 43) hO dX4_isWord_43 rfl ?_
          refine v_aload_n (pc := 44) hO dX4_isWord_44 rfl ?_
          refine v_callVR (pc := 45) (b := t) hO hs.rcv (m_slength hs) (lw_V q2584 q512 q513 q127 q514) yo_J11_length rfl rfl rfl (by decide) (by decide) (k2 := 0) (n2 := 0) (by decide) (by decide) (by decide) (by decide) dX4_isWord_45 (fun va hv hp hf1 => ?_)
          obtain ⟨rfl, rfl⟩ := hp
          refine v_icmp_ge (pc := 48) (tgt := 82) hO dX4_isWord_48 (by decide) (by first | assumption | exact hSz _ | exact hBz _ | exact b2i_R _ | (unfold zR; omega)) (by first | assumption | exact hSz _ | exact hBz _ | exact b2i_R _ | (unfold zR; omega)) (fun c48 => ?_) (fun c48 => ?_)
          · refine v_iload_n (pc := 82) hO dX4_isWord_82 rfl ?_
            exact v_zret hO dX4_isWord_83 rfl (nar_z (b2i_c _)) (Nat.le_of_ble_eq_true rfl) (Nat.le_of_ble_eq_true rfl) ⟨congrArg (fun z => some (Sum.inl z)) (by rw [Bool.decide_eq_true, hg]; first | (rw [anyI_e (by omega)]; cases E <;> rfl) | (cases E with | false => rfl | true => exact absurd c48 (by decide))), rfl⟩
          · have hck := ha.2 k.toNat (by omega)
            refine v_aload_n (pc := 51) hO dX4_isWord_51 rfl ?_
            refine v_iload_n (pc := 52) hO dX4_isWord_52 rfl ?_
            refine v_callVR (pc := 53) (b := t) hO hs.rcv (m_scharAt hs k (by omega) (by omega)) (lw_V q2585 q525 q526 q127 q527) yo_J11_charAt rfl rfl rfl (by decide) (by decide) (k2 := 0) (n2 := 0) (by decide) (by decide) (by decide) (by decide) dX4_isWord_53 (fun va hv hp hf1 => ?_)
            obtain ⟨rfl, rfl⟩ := hp
            refine v_aload_n (pc := 56) hO dX4_isWord_56 rfl ?_
            refine v_getf (pc := 57) (v := sref (ad 12)) hO cp_X4 12 q2137 hr.ob (by decide) rfl dX4_isWord_57 ?_
            refine v_aload_n (pc := 60) hO dX4_isWord_60 rfl ?_
            refine v_getf (pc := 61) (v := .inl (S 16)) hO cp_X4 16 q2141 hr.ob (by decide) rfl dX4_isWord_61 ?_
            refine v_iload_n (pc := 64) hO dX4_isWord_64 rfl ?_
            refine v_iadd (pc := 65) hO dX4_isWord_65 ?_
            refine r_iald (pc := 66) (w := Ar 12 (S 16 + k)) (L := 600) hO hr 12 ri_12 rfl rfl (by omega) (by omega) dX4_isWord_66 ?_
            refine v_icmp_ne (pc := 67) (tgt := 74) hO dX4_isWord_67 (by decide) (by first | assumption | exact hSz _ | exact hBz _ | exact b2i_R _ | (unfold zR; omega)) (by first | assumption | exact hSz _ | exact hBz _ | exact b2i_R _ | (unfold zR; omega)) (fun c67 => ?_) (fun c67 => ?_)
            · refine v_iconst (pc := 74) hO dX4_isWord_74 ?_
              refine v_istore_n (pc := 75) hO (lv' := [(2, .inl 0), (0, sref am), (1, sref t), (3, .inl k)]) dX4_isWord_75 (by decide) rfl ?_
              refine v_iinc (pc := 76) hO (lv' := [(3, .inl (k + 1)), (2, .inl 0), (0, sref am), (1, sref t)]) dX4_isWord_76 rfl (by decide) rfl ?_
              refine v_goto (pc := 79) (tgt := 39) hO dX4_isWord_79 (by decide) ?_
              refine v_pick (lv2 := [(0, sref am), (1, sref t), (2, .inl (b2i false)), (3, .inl ((k + 1)))]) [2, 3, 1, 0] rfl ?_
              exact ih (k + 1, false) ⟨(by omega), (by omega), (fun e => by cases e), (by rw [hg, anyI_s (show k < (bs.length : Int) by omega), show neQ (Ar 12) (tB (Ar 12) L x.1) bs k = true from decide_eq_true (by omega)]; cases E <;> rfl)⟩ (by show ((bs.length : Int) - (k + 1)).toNat < ((bs.length : Int) - k).toNat; omega)
            · refine v_iconst (pc := 70) hO dX4_isWord_70 ?_
              refine v_goto (pc := 71) (tgt := 75) hO dX4_isWord_71 (by decide) ?_
              refine v_istore_n (pc := 75) hO (lv' := [(2, .inl 1), (0, sref am), (1, sref t), (3, .inl k)]) dX4_isWord_75 (by decide) rfl ?_
              refine v_iinc (pc := 76) hO (lv' := [(3, .inl (k + 1)), (2, .inl 1), (0, sref am), (1, sref t)]) dX4_isWord_76 rfl (by decide) rfl ?_
              refine v_goto (pc := 79) (tgt := 39) hO dX4_isWord_79 (by decide) ?_
              refine v_pick (lv2 := [(0, sref am), (1, sref t), (2, .inl (b2i true)), (3, .inl ((k + 1)))]) [2, 3, 1, 0] rfl ?_
              exact ih (k + 1, true) ⟨(by omega), (by omega), (fun _ => hE hEt), (by rw [hg, anyI_s (show k < (bs.length : Int) by omega), show neQ (Ar 12) (tB (Ar 12) L x.1) bs k = false from decide_eq_false (by omega), hEt]; rfl)⟩ (by show ((bs.length : Int) - (k + 1)).toNat < ((bs.length : Int) - k).toNat; omega)
      · refine v_iconst (pc := 31) hO dX4_isWord_31 ?_
        refine v_goto (pc := 32) (tgt := 36) hO dX4_isWord_32 (by decide) ?_
        refine v_istore_n (pc := 36) hO (lv' := [(2, .inl 1), (0, sref am), (1, sref t)]) dX4_isWord_36 (by decide) rfl ?_
        refine v_iconst (pc := 37) hO dX4_isWord_37 ?_
        refine v_istore_n (pc := 38) hO (lv' := [(3, .inl 0), (2, .inl 1), (0, sref am), (1, sref t)]) dX4_isWord_38 (by decide) rfl ?_
        refine v_pick (lv2 := [(0, sref am), (1, sref t), (2, .inl (b2i true)), (3, .inl 0)]) [2, 3, 1, 0] rfl ?_
        refine v_loop (σ := Int × Bool) (fun (k, E) => 0 ≤ k ∧ k ≤ (bs.length : Int) ∧ (E = true → x.2.1 = 0 ∧ S 17 = 1 ∧ (bs.length : Int) = S 15 - S 16) ∧ wrdB (Ar 12) L x bs = (E && !anyI (neQ (Ar 12) (tB (Ar 12) L x.1) bs) ((bs.length : Int) - k).toNat k)) (fun (k, E) => ((bs.length : Int) - k).toNat) (fun (k, E) => h) (fun (k, E) => [(0, sref am), (1, sref t), (2, .inl (b2i E)), (3, .inl k)]) (0, true) ⟨Int.le_refl _, (by omega), (fun _ => by have e8 := hx.2.2.2.1; exact ⟨by omega, by omega, by omega⟩), (by unfold wrdB; rw [decide_eq_true (p := x.2.1 = 0 ∧ tK (Ar 12) L x.1 = 1 ∧ (bs.length : Int) = tN (Ar 12) L x.1 - tB (Ar 12) L x.1) (by have e8 := hx.2.2.2.1; first | omega | (have e9 := hx.good (by omega); omega))])⟩ ?_
        rintro ⟨k, E⟩ ⟨hk0, hk1, hE, hg⟩ ih
        show VV X G A _ _ _ h _ _ 39 [(0, sref am), (1, sref t), (2, .inl (b2i E)), (3, .inl k)] []
        refine v_iload_n (pc := 39) hO dX4_isWord_39 rfl ?_
        refine v_if_eq (pc := 40) (tgt := 82) hO dX4_isWord_40 (by decide) (by first | assumption | exact hSz _ | exact hBz _ | exact b2i_R _ | (unfold zR; omega)) (fun c40 => ?_) (fun c40 => ?_)
        · refine v_iload_n (pc := 82) hO dX4_isWord_82 rfl ?_
          exact v_zret hO dX4_isWord_83 rfl (nar_z (b2i_c _)) (Nat.le_of_ble_eq_true rfl) (Nat.le_of_ble_eq_true rfl) ⟨congrArg (fun z => some (Sum.inl z)) (by rw [Bool.decide_eq_true, hg]; first | (rw [anyI_e (by omega)]; cases E <;> rfl) | (cases E with | false => rfl | true => exact absurd c40 (by decide))), rfl⟩
        · have hEt : E = true := (by cases E with | false => exact absurd rfl c40 | true => rfl)
          obtain ⟨q1, q2, q3⟩ := hE hEt
          have hgd := hx.good (by have := hx.2.2.2.1; omega)
          have hLb := hx.2.2.1
          have h16 := hx.2.2.2.2.1
          have e16k : Ar 12 (S 16 + k) = Ar 12 (tB (Ar 12) L x.1 + k) := (by rw [hgd.2.2.2.2.1])
          refine v_iload_n (pc := 43) hO dX4_isWord_43 rfl ?_
          refine v_aload_n (pc := 44) hO dX4_isWord_44 rfl ?_
          refine v_callVR (pc := 45) (b := t) hO hs.rcv (m_slength hs) (lw_V q2584 q512 q513 q127 q514) yo_J11_length rfl rfl rfl (by decide) (by decide) (k2 := 0) (n2 := 0) (by decide) (by decide) (by decide) (by decide) dX4_isWord_45 (fun va hv hp hf1 => ?_)
          obtain ⟨rfl, rfl⟩ := hp
          refine v_icmp_ge (pc := 48) (tgt := 82) hO dX4_isWord_48 (by decide) (by first | assumption | exact hSz _ | exact hBz _ | exact b2i_R _ | (unfold zR; omega)) (by first | assumption | exact hSz _ | exact hBz _ | exact b2i_R _ | (unfold zR; omega)) (fun c48 => ?_) (fun c48 => ?_)
          · refine v_iload_n (pc := 82) hO dX4_isWord_82 rfl ?_
            exact v_zret hO dX4_isWord_83 rfl (nar_z (b2i_c _)) (Nat.le_of_ble_eq_true rfl) (Nat.le_of_ble_eq_true rfl) ⟨congrArg (fun z => some (Sum.inl z)) (by rw [Bool.decide_eq_true, hg]; first | (rw [anyI_e (by omega)]; cases E <;> rfl) | (cases E with | false => rfl | true => exact absurd c48 (by decide))), rfl⟩
          · have hck := ha.2 k.toNat (by omega)
            refine v_aload_n (pc := 51) hO dX4_isWord_51 rfl ?_
            refine v_iload_n (pc := 52) hO dX4_isWord_52 rfl ?_
            refine v_callVR (pc := 53) (b := t) hO hs.rcv (m_scharAt hs k (by omega) (by omega)) (lw_V q2585 q525 q526 q127 q527) yo_J11_charAt rfl rfl rfl (by decide) (by decide) (k2 := 0) (n2 := 0) (by decide) (by decide) (by decide) (by decide) dX4_isWord_53 (fun va hv hp hf1 => ?_)
            obtain ⟨rfl, rfl⟩ := hp
            refine v_aload_n (pc := 56) hO dX4_isWord_56 rfl ?_
            refine v_getf (pc := 57) (v := sref (ad 12)) hO cp_X4 12 q2137 hr.ob (by decide) rfl dX4_isWord_57 ?_
            refine v_aload_n (pc := 60) hO dX4_isWord_60 rfl ?_
            refine v_getf (pc := 61) (v := .inl (S 16)) hO cp_X4 16 q2141 hr.ob (by decide) rfl dX4_isWord_61 ?_
            refine v_iload_n (pc := 64) hO dX4_isWord_64 rfl ?_
            refine v_iadd (pc := 65) hO dX4_isWord_65 ?_
            refine r_iald (pc := 66) (w := Ar 12 (S 16 + k)) (L := 600) hO hr 12 ri_12 rfl rfl (by omega) (by omega) dX4_isWord_66 ?_
            refine v_icmp_ne (pc := 67) (tgt := 74) hO dX4_isWord_67 (by decide) (by first | assumption | exact hSz _ | exact hBz _ | exact b2i_R _ | (unfold zR; omega)) (by first | assumption | exact hSz _ | exact hBz _ | exact b2i_R _ | (unfold zR; omega)) (fun c67 => ?_) (fun c67 => ?_)
            · refine v_iconst (pc := 74) hO dX4_isWord_74 ?_
              refine v_istore_n (pc := 75) hO (lv' := [(2, .inl 0), (0, sref am), (1, sref t), (3, .inl k)]) dX4_isWord_75 (by decide) rfl ?_
              refine v_iinc (pc := 76) hO (lv' := [(3, .inl (k + 1)), (2, .inl 0), (0, sref am), (1, sref t)]) dX4_isWord_76 rfl (by decide) rfl ?_
              refine v_goto (pc := 79) (tgt := 39) hO dX4_isWord_79 (by decide) ?_
              refine v_pick (lv2 := [(0, sref am), (1, sref t), (2, .inl (b2i false)), (3, .inl ((k + 1)))]) [2, 3, 1, 0] rfl ?_
              exact ih (k + 1, false) ⟨(by omega), (by omega), (fun e => by cases e), (by rw [hg, anyI_s (show k < (bs.length : Int) by omega), show neQ (Ar 12) (tB (Ar 12) L x.1) bs k = true from decide_eq_true (by omega)]; cases E <;> rfl)⟩ (by show ((bs.length : Int) - (k + 1)).toNat < ((bs.length : Int) - k).toNat; omega)
            · refine v_iconst (pc := 70) hO dX4_isWord_70 ?_
              refine v_goto (pc := 71) (tgt := 75) hO dX4_isWord_71 (by decide) ?_
              refine v_istore_n (pc := 75) hO (lv' := [(2, .inl 1), (0, sref am), (1, sref t), (3, .inl k)]) dX4_isWord_75 (by decide) rfl ?_
              refine v_iinc (pc := 76) hO (lv' := [(3, .inl (k + 1)), (2, .inl 1), (0, sref am), (1, sref t)]) dX4_isWord_76 rfl (by decide) rfl ?_
              refine v_goto (pc := 79) (tgt := 39) hO dX4_isWord_79 (by decide) ?_
              refine v_pick (lv2 := [(0, sref am), (1, sref t), (2, .inl (b2i true)), (3, .inl ((k + 1)))]) [2, 3, 1, 0] rfl ?_
              exact ih (k + 1, true) ⟨(by omega), (by omega), (fun _ => hE hEt), (by rw [hg, anyI_s (show k < (bs.length : Int) by omega), show neQ (Ar 12) (tB (Ar 12) L x.1) bs k = false from decide_eq_false (by omega), hEt]; rfl)⟩ (by show ((bs.length : Int) - (k + 1)).toNat < ((bs.length : Int) - k).toNat; omega)
