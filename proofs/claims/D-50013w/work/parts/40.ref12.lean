/-! THE READERS' STATUS: (position, error code, error position); the reference's checks -/
set_option maxRecDepth 100000
theorem runI_all {p : Int → Bool} : ∀ (n : Nat) (i k : Int), i ≤ k → k < runI p n i → p k = true
  | 0, i, k, h0, h1 => absurd (show k < i from h1) (by omega)
  | n + 1, i, k, h0, h1 => by
    have h2 : k < (if p i = true then runI p n (i + 1) else i) := h1
    split at h2
    · rename_i hp
      by_cases e : k = i
      · rw [e]; exact hp
      · exact runI_all n (i + 1) k (by omega) h2
    · omega
theorem tK_lt {B : Int → Int} {L q : Int} (h : tK B L q ≠ 0) : tB B L q < L := by
  unfold tK at h; split at h
  · exact absurd rfl h
  · omega
theorem tN_dg {B : Int → Int} {L q : Int} (hq : q ≤ L) (h : tK B L q = 2) : ∀ k, tB B L q ≤ k → k < tN B L q → 48 ≤ B k ∧ B k ≤ 57 := by
  intro k k0 k1
  have hN := tN_in (B := B) hq
  have k2 := k1
  unfold tN at k2
  rw [h, if_neg (by decide), if_neg (by decide), if_pos rfl] at k2
  have e : 48 ≤ bytM B L k ∧ bytM B L k ≤ 57 := of_decide_eq_true (runI_all _ _ k k0 k2)
  unfold bytM at e
  rw [if_pos (by omega)] at e
  exact e
abbrev P3 : Type := Int × Int × Int
def flwP (B : Int → Int) (L c : Int) (x : P3) : P3 := if x.2.1 = 0 then (x.1, c, tB B L x.1) else x
def chkP (B : Int → Int) (L : Int) (b : Prop) [Decidable b] (c : Int) (x : P3) : P3 := if b then x else flwP B L c x
def advP (B : Int → Int) (L : Int) (x : P3) : P3 := if x.2.1 = 0 then (tN B L x.1, 0, 0) else x
def StS (S : Nat → Int) (B : Int → Int) (L : Int) (x : P3) : Prop := S 14 = L ∧ 0 ≤ L ∧ L ≤ 600 ∧ S 18 = x.2.1 ∧ (0 ≤ S 16 ∧ S 16 ≤ S 15 ∧ S 15 ≤ L) ∧ (0 ≤ S 17 ∧ S 17 ≤ 3) ∧ (S 17 = 2 → ∀ k, S 16 ≤ k → k < S 15 → 48 ≤ B k ∧ B k ≤ 57) ∧ (x.2.1 = 0 → 0 ≤ x.1 ∧ x.1 ≤ L ∧ S 15 = tN B L x.1 ∧ S 16 = tB B L x.1 ∧ S 17 = tK B L x.1) ∧ (x.2.1 ≠ 0 → S 19 = x.2.2)
/-- only the reader's own numbers change -/
def ScF (S2 S : Nat → Int) : Prop := ∀ j, j ≠ 15 → j ≠ 16 → j ≠ 17 → j ≠ 18 → j ≠ 19 → S2 j = S j
theorem ScF.rf (S : Nat → Int) : ScF S S := fun _ _ _ _ _ _ => rfl
theorem ScF.tr {a b c : Nat → Int} (h1 : ScF a b) (h2 : ScF b c) : ScF a c := fun j a1 a2 a3 a4 a5 => (h1 j a1 a2 a3 a4 a5).trans (h2 j a1 a2 a3 a4 a5)
theorem ScF.st {S2 S : Nat → Int} (h : ScF S2 S) {j : Nat} {v : Int} (hj : j = 15 ∨ j = 16 ∨ j = 17 ∨ j = 18 ∨ j = 19) : ScF (rS S2 j v) S := fun i a1 a2 a3 a4 a5 => (rS_n (by omega)).trans (h i a1 a2 a3 a4 a5)
theorem StS.flw {S : Nat → Int} {B : Int → Int} {L : Int} {x : P3} (h : StS S B L x) (e : S 18 = 0) {c : Int} (hc : c ≠ 0) : StS (rS (rS S 18 c) 19 (S 16)) B L (flwP B L c x) := by
  obtain ⟨a1, a2, a3, a4, a5, a6, a7, a8, a9⟩ := h
  have e2 : x.2.1 = 0 := by omega
  unfold flwP
  rw [if_pos e2]
  exact ⟨a1, a2, a3, rfl, a5, a6, a7, fun z => absurd z hc, fun _ => (a8 e2).2.2.2.1⟩
theorem StS.adv {S : Nat → Int} {B : Int → Int} {L : Int} {x : P3} (h : StS S B L x) (e : S 18 = 0) : StS (rS (rS (rS S 15 (tN B L (S 15))) 16 (tB B L (S 15))) 17 (tK B L (S 15))) B L (advP B L x) := by
  obtain ⟨a1, a2, a3, a4, a5, a6, a7, a8, a9⟩ := h
  have e2 : x.2.1 = 0 := by omega
  obtain ⟨b1, b2, b3, b4, b5⟩ := a8 e2
  have n1 := tN_in (B := B) a5.2.2
  have n2 := tB_in (B := B) a5.2.2
  have n3 := tK_in B L (S 15)
  unfold advP
  rw [if_pos e2, ← b3]
  exact ⟨a1, a2, a3, e, ⟨by show 0 ≤ tB B L (S 15); omega, n1⟩, n3, fun z => tN_dg a5.2.2 z, fun _ => ⟨by show 0 ≤ S 15; omega, a5.2.2, rfl, rfl, rfl⟩, fun z => absurd rfl z⟩
theorem StS.no {S : Nat → Int} {B : Int → Int} {L : Int} {x : P3} (h : StS S B L x) (e : S 18 ≠ 0) {c : Int} : flwP B L c x = x ∧ advP B L x = x := by
  have e2 : x.2.1 ≠ 0 := by have := h.2.2.2.1; omega
  unfold flwP advP
  exact ⟨if_neg e2, if_neg e2⟩
theorem yo_X4_flaw : yOK yX4_flaw 1 := by unfold yOK; exact ⟨by decide +kernel, by decide +kernel, by decide +kernel⟩
set_option maxRecDepth 100000 in
theorem m_flaw {G : GT} {h : AH} {am : Nat} {ad : Nat → Nat} {nmf : Int → Option Nat} {S : Nat → Int} {Ar : Nat → Int → Int} {M : Int → Int} {L : Int} (hr : RefAt G h am ad nmf S (rA Ar 0 M)) {A : Nat → Prop} (hA : ∀ q, RA am ad q → A q) (x : P3) (hx : StS S (Ar 12) L x) (c : Int) (zc : zR c) (hc : c ≠ 0) : CC G yX4_flaw cX4_flaw 2 (none) ({ frames := 1, cells := 0, slots := 0, locals := 12 } : Room) A [sref am, .inl c] h (fun v h1 => v = none ∧ ∃ S2, RefAt G h1 am ad nmf S2 (rA Ar 0 M) ∧ ScF S2 S ∧ StS S2 (Ar 12) L (flwP (Ar 12) L c x)) := by
  refine CC.of (by decide +kernel) [(0, sref am), (1, .inl c)] rfl (Nat.le_of_ble_eq_true rfl) (fun X hnm hO => ?_)
  have hMz : ∀ z, zR (M z) := fun z => hr.zA 0 z
  have hMz : ∀ z, zR (M z) := fun z => hr.zA 0 z
  have hBz : ∀ z, zR (Ar 12 z) := fun z => hr.zA 12 z
  have hSz : ∀ z, zR (S z) := fun z => hr.zS z
  refine v_aload_n (pc := 0) hO dX4_flaw_0 rfl ?_
  refine v_getf (pc := 1) (v := .inl (S 18)) hO cp_X4 18 q2143 hr.ob (by decide) rfl dX4_flaw_1 ?_
  refine v_if_ne (pc := 4) (tgt := 20) hO dX4_flaw_4 (by decide) (by first | assumption | exact hSz _ | exact hBz _ | exact bytz _ | exact hr.zS 14 | exact hr.zS 15 | exact hr.zS 16 | (unfold zR; omega)) (fun c4 => ?_) (fun c4 => ?_)
  · exact v_vret hO dX4_flaw_20 rfl (Nat.le_of_ble_eq_true rfl) (Nat.le_of_ble_eq_true rfl) ⟨rfl, S, hr, ScF.rf S, by rw [(hx.no (by omega)).1]; exact hx⟩
  · refine v_aload_n (pc := 7) hO dX4_flaw_7 rfl ?_
    refine v_iload_n (pc := 8) hO dX4_flaw_8 rfl ?_
    refine r_puti (pc := 9) (S2 := (rS S 18 c)) hO hr hA 18 rn_18 q2143 rfl (by first | assumption | exact hSz _ | exact hBz _ | exact bytz _ | exact hr.zS 14 | exact hr.zS 15 | exact hr.zS 16 | (unfold zR; omega)) dX4_flaw_9 (fun h hr => ?_)
    refine v_aload_n (pc := 12) hO dX4_flaw_12 rfl ?_
    refine v_aload_n (pc := 13) hO dX4_flaw_13 rfl ?_
    refine v_getf (pc := 14) (v := .inl (S 16)) hO cp_X4 16 q2141 hr.ob (by decide) rfl dX4_flaw_14 ?_
    refine r_puti (pc := 17) (S2 := (rS (rS S 18 c) 19 (S 16))) hO hr hA 19 rn_19 q2144 rfl (by first | assumption | exact hSz _ | exact hBz _ | exact bytz _ | exact hr.zS 14 | exact hr.zS 15 | exact hr.zS 16 | (unfold zR; omega)) dX4_flaw_17 (fun h hr => ?_)
    exact v_vret hO dX4_flaw_20 rfl (Nat.le_of_ble_eq_true rfl) (Nat.le_of_ble_eq_true rfl) ⟨rfl, _, hr, ((ScF.rf S).st (by decide)).st (by decide), hx.flw (by omega) hc⟩
theorem yo_X4_check : yOK yX4_check 2 := by unfold yOK; exact ⟨by decide +kernel, by decide +kernel, by decide +kernel⟩
set_option maxRecDepth 100000 in
theorem m_check {G : GT} {h : AH} {am : Nat} {ad : Nat → Nat} {nmf : Int → Option Nat} {S : Nat → Int} {Ar : Nat → Int → Int} {M : Int → Int} {L : Int} (hr : RefAt G h am ad nmf S (rA Ar 0 M)) {A : Nat → Prop} (hA : ∀ q, RA am ad q → A q) (x : P3) (hx : StS S (Ar 12) L x) (z c : Int) (zz : zR z) (zc : zR c) (hc : c ≠ 0) : CC G yX4_check cX4_check 3 (none) ({ frames := 2, cells := 0, slots := 0, locals := 33 } : Room) A [sref am, .inl z, .inl c] h (fun v h1 => v = none ∧ ∃ S2, RefAt G h1 am ad nmf S2 (rA Ar 0 M) ∧ ScF S2 S ∧ StS S2 (Ar 12) L (chkP (Ar 12) L (z ≠ 0) c x)) := by
  refine CC.of (by decide +kernel) [(0, sref am), (1, .inl z), (2, .inl c)] rfl (Nat.le_of_ble_eq_true rfl) (fun X hnm hO => ?_)
  have hMz : ∀ z, zR (M z) := fun z => hr.zA 0 z
  have hMz : ∀ z, zR (M z) := fun z => hr.zA 0 z
  have hBz : ∀ z, zR (Ar 12 z) := fun z => hr.zA 12 z
  have hSz : ∀ z, zR (S z) := fun z => hr.zS z
  refine v_iload_n (pc := 0) hO dX4_check_0 rfl ?_
  refine v_if_ne (pc := 1) (tgt := 9) hO dX4_check_1 (by decide) (by first | assumption | exact hSz _ | exact hBz _ | exact bytz _ | exact hr.zS 14 | exact hr.zS 15 | exact hr.zS 16 | (unfold zR; omega)) (fun c1 => ?_) (fun c1 => ?_)
  · exact v_vret hO dX4_check_9 rfl (Nat.le_of_ble_eq_true rfl) (Nat.le_of_ble_eq_true rfl) ⟨rfl, _, hr, ScF.rf S, by unfold chkP; rw [if_pos (by omega)]; exact hx⟩
  · refine v_aload_n (pc := 4) hO dX4_check_4 rfl ?_
    refine v_iload_n (pc := 5) hO dX4_check_5 rfl ?_
    refine v_callV (pc := 6) (b := am) hO cp_X4 hr.ob (m_flaw hr hA x hx c (by assumption) (by first | assumption | decide)) (lw_V q2590 q2592 qs85 q117 q2593) yo_X4_flaw rfl rfl rfl (by decide) (by decide) (k2 := 0) (n2 := 0) (by decide) (by decide) (by decide) (by decide) dX4_check_6 (fun va hv hp hf1 => ?_)
    obtain ⟨rfl, S_1, hr, hsS_1, hx⟩ := hp
    have hsS_1 := hsS_1.tr (ScF.rf S)
    have hSz : ∀ z, zR (S_1 z) := fun z => hr.zS z
    exact v_vret hO dX4_check_9 rfl (Nat.le_of_ble_eq_true rfl) (Nat.le_of_ble_eq_true rfl) ⟨rfl, _, hr, hsS_1, by unfold chkP; rw [if_neg (by omega)]; exact hx⟩
theorem yo_X4_advance : yOK yX4_advance 0 := by unfold yOK; exact ⟨by decide +kernel, by decide +kernel, by decide +kernel⟩
set_option maxRecDepth 100000 in
theorem m_advance {G : GT} {h : AH} {am : Nat} {ad : Nat → Nat} {nmf : Int → Option Nat} {S : Nat → Int} {Ar : Nat → Int → Int} {M : Int → Int} {L : Int} (hr : RefAt G h am ad nmf S (rA Ar 0 M)) {A : Nat → Prop} (hA : ∀ q, RA am ad q → A q) (x : P3) (hx : StS S (Ar 12) L x) : CC G yX4_advance cX4_advance 1 (none) ({ frames := 4, cells := 0, slots := 0, locals := 74 } : Room) A [sref am] h (fun v h1 => v = none ∧ ∃ S2, RefAt G h1 am ad nmf S2 (rA Ar 0 M) ∧ ScF S2 S ∧ StS S2 (Ar 12) L (advP (Ar 12) L x)) := by
  refine CC.of (by decide +kernel) [(0, sref am)] rfl (Nat.le_of_ble_eq_true rfl) (fun X hnm hO => ?_)
  have hMz : ∀ z, zR (M z) := fun z => hr.zA 0 z
  have hMz : ∀ z, zR (M z) := fun z => hr.zA 0 z
  have hBz : ∀ z, zR (Ar 12 z) := fun z => hr.zA 12 z
  have hSz : ∀ z, zR (S z) := fun z => hr.zS z
  refine v_aload_n (pc := 0) hO dX4_advance_0 rfl ?_
  refine v_getf (pc := 1) (v := .inl (S 18)) hO cp_X4 18 q2143 hr.ob (by decide) rfl dX4_advance_1 ?_
  refine v_if_ne (pc := 4) (tgt := 11) hO dX4_advance_4 (by decide) (by first | assumption | exact hSz _ | exact hBz _ | exact bytz _ | exact hr.zS 14 | exact hr.zS 15 | exact hr.zS 16 | (unfold zR; omega)) (fun c4 => ?_) (fun c4 => ?_)
  · exact v_vret hO dX4_advance_11 rfl (Nat.le_of_ble_eq_true rfl) (Nat.le_of_ble_eq_true rfl) ⟨rfl, S, hr, ScF.rf S, by rw [(hx.no (c := 0) (by omega)).2]; exact hx⟩
  · refine v_aload_n (pc := 7) hO dX4_advance_7 rfl ?_
    refine v_callV (pc := 8) (b := am) hO cp_X4 hr.ob (m_scan hr hA (by have := hx.1; have := hx.2.1; omega) (by have := hx.1; have := hx.2.2.1; omega) (by have := hx.2.2.2.2.1; omega) (by have := hx.1; have := hx.2.2.2.2.1; omega)) (lw_V q2555 q2557 qs77 q117 q2558) yo_X4_scan rfl rfl rfl (by decide) (by decide) (k2 := 0) (n2 := 0) (by decide) (by decide) (by decide) (by decide) dX4_advance_8 (fun va hv hp hf1 => ?_)
    obtain ⟨rfl, hr⟩ := hp
    have eL := hx.1
    exact v_vret hO dX4_advance_11 rfl (Nat.le_of_ble_eq_true rfl) (Nat.le_of_ble_eq_true rfl) ⟨rfl, _, hr, (((ScF.rf S).st (by decide)).st (by decide)).st (by decide), by have e9 := hx.adv (by omega); rw [← eL] at e9 ⊢; exact e9⟩
abbrev symP (B : Int → Int) (L s : Int) (x : P3) : Prop := x.2.1 = 0 ∧ tK B L x.1 = 3 ∧ B (tB B L x.1) = s
theorem StS.good {S : Nat → Int} {B : Int → Int} {L : Int} {x : P3} (h : StS S B L x) (e : S 18 = 0) : x.2.1 = 0 ∧ 0 ≤ x.1 ∧ x.1 ≤ L ∧ S 15 = tN B L x.1 ∧ S 16 = tB B L x.1 ∧ S 17 = tK B L x.1 := by
  have e2 : x.2.1 = 0 := by have := h.2.2.2.1; omega
  exact ⟨e2, h.2.2.2.2.2.2.2.1 e2⟩
theorem yo_X4_isSymbol : yOK yX4_isSymbol 1 := by unfold yOK; exact ⟨by decide +kernel, by decide +kernel, by decide +kernel⟩
set_option maxRecDepth 100000 in
theorem m_isSymbol {G : GT} {h : AH} {am : Nat} {ad : Nat → Nat} {nmf : Int → Option Nat} {S : Nat → Int} {Ar : Nat → Int → Int} {M : Int → Int} {L : Int} (hr : RefAt G h am ad nmf S (rA Ar 0 M)) {A : Nat → Prop} (x : P3) (hx : StS S (Ar 12) L x) (s : Int) (zs : zR s) : CC G yX4_isSymbol cX4_isSymbol 2 (some .boolean) ({ frames := 1, cells := 0, slots := 0, locals := 12 } : Room) A [sref am, .inl s] h (fun v h1 => v = some (.inl (b2i (decide (symP (Ar 12) L s x)))) ∧ h = h1) := by
  refine CC.of (by decide +kernel) [(0, sref am), (1, .inl s)] rfl (Nat.le_of_ble_eq_true rfl) (fun X hnm hO => ?_)
  have hMz : ∀ z, zR (M z) := fun z => hr.zA 0 z
  have hBz : ∀ z, zR (Ar 12 z) := fun z => hr.zA 12 z
  have hSz : ∀ z, zR (S z) := fun z => hr.zS z
  refine v_aload_n (pc := 0) hO dX4_isSymbol_0 rfl ?_
  refine v_getf (pc := 1) (v := .inl (S 18)) hO cp_X4 18 q2143 hr.ob (by decide) rfl dX4_isSymbol_1 ?_
  refine v_if_ne (pc := 4) (tgt := 32) hO dX4_isSymbol_4 (by decide) (by first | assumption | exact hSz _ | exact hBz _ | exact bytz _ | exact hr.zS 14 | exact hr.zS 15 | exact hr.zS 16 | (unfold zR; omega)) (fun c4 => ?_) (fun c4 => ?_)
  · refine v_iconst (pc := 32) hO dX4_isSymbol_32 ?_
    exact v_zret hO dX4_isSymbol_33 rfl (by decide +kernel) (Nat.le_of_ble_eq_true rfl) (Nat.le_of_ble_eq_true rfl) ⟨congrArg (fun z => some (Sum.inl z)) (b2i_f (by have e8 := hx.2.2.2.1; first | omega | (have e9 := hx.good (by omega); omega))).symm, rfl⟩
  · refine v_aload_n (pc := 7) hO dX4_isSymbol_7 rfl ?_
    refine v_getf (pc := 8) (v := .inl (S 17)) hO cp_X4 17 q2142 hr.ob (by decide) rfl dX4_isSymbol_8 ?_
    refine v_iconst (pc := 11) hO dX4_isSymbol_11 ?_
    refine v_icmp_ne (pc := 12) (tgt := 32) hO dX4_isSymbol_12 (by decide) (by first | assumption | exact hSz _ | exact hBz _ | exact bytz _ | exact hr.zS 14 | exact hr.zS 15 | exact hr.zS 16 | (unfold zR; omega)) (by first | assumption | exact hSz _ | exact hBz _ | exact bytz _ | exact hr.zS 14 | exact hr.zS 15 | exact hr.zS 16 | (unfold zR; omega)) (fun c12 => ?_) (fun c12 => ?_)
    · refine v_iconst (pc := 32) hO dX4_isSymbol_32 ?_
      exact v_zret hO dX4_isSymbol_33 rfl (by decide +kernel) (Nat.le_of_ble_eq_true rfl) (Nat.le_of_ble_eq_true rfl) ⟨congrArg (fun z => some (Sum.inl z)) (b2i_f (by have e8 := hx.2.2.2.1; first | omega | (have e9 := hx.good (by omega); omega))).symm, rfl⟩
    · have hg := hx.good (by omega)
      have e16 := congrArg (Ar 12) hg.2.2.2.2.1
      have hlt := tK_lt (B := Ar 12) (L := L) (q := x.1) (by omega)
      have hL3 := hx.2.2.1
      have h16 := hx.2.2.2.2.1
      refine v_aload_n (pc := 15) hO dX4_isSymbol_15 rfl ?_
      refine v_getf (pc := 16) (v := sref (ad 12)) hO cp_X4 12 q2137 hr.ob (by decide) rfl dX4_isSymbol_16 ?_
      refine v_aload_n (pc := 19) hO dX4_isSymbol_19 rfl ?_
      refine v_getf (pc := 20) (v := .inl (S 16)) hO cp_X4 16 q2141 hr.ob (by decide) rfl dX4_isSymbol_20 ?_
      refine r_iald (pc := 23) (w := Ar 12 (S 16)) (L := 600) hO hr 12 ri_12 rfl rfl (by omega) (by omega) dX4_isSymbol_23 ?_
      refine v_iload_n (pc := 24) hO dX4_isSymbol_24 rfl ?_
      refine v_icmp_ne (pc := 25) (tgt := 32) hO dX4_isSymbol_25 (by decide) (by first | assumption | exact hSz _ | exact hBz _ | exact bytz _ | exact hr.zS 14 | exact hr.zS 15 | exact hr.zS 16 | (unfold zR; omega)) (by first | assumption | exact hSz _ | exact hBz _ | exact bytz _ | exact hr.zS 14 | exact hr.zS 15 | exact hr.zS 16 | (unfold zR; omega)) (fun c25 => ?_) (fun c25 => ?_)
      · refine v_iconst (pc := 32) hO dX4_isSymbol_32 ?_
        exact v_zret hO dX4_isSymbol_33 rfl (by decide +kernel) (Nat.le_of_ble_eq_true rfl) (Nat.le_of_ble_eq_true rfl) ⟨congrArg (fun z => some (Sum.inl z)) (b2i_f (by have e8 := hx.2.2.2.1; first | omega | (have e9 := hx.good (by omega); omega))).symm, rfl⟩
      · refine v_iconst (pc := 28) hO dX4_isSymbol_28 ?_
        refine v_goto (pc := 29) (tgt := 33) hO dX4_isSymbol_29 (by decide) ?_
        exact v_zret hO dX4_isSymbol_33 rfl (by decide +kernel) (Nat.le_of_ble_eq_true rfl) (Nat.le_of_ble_eq_true rfl) ⟨congrArg (fun z => some (Sum.inl z)) (b2i_t (by have e8 := hx.2.2.2.1; first | omega | (have e9 := hx.good (by omega); omega))).symm, rfl⟩
