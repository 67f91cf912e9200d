/-! THE SCANNER: its plain law, and the reference's -/
set_option maxRecDepth 100000
def bytM (B : Int → Int) (L i : Int) : Int := if i < L then B i else -1
abbrev spcP (B : Int → Int) (L i : Int) : Prop := bytM B L i = 32 ∨ bytM B L i = 10
abbrev ltrP (B : Int → Int) (L i : Int) : Prop := 97 ≤ bytM B L i ∧ bytM B L i ≤ 122
abbrev dgtP (B : Int → Int) (L i : Int) : Prop := 48 ≤ bytM B L i ∧ bytM B L i ≤ 57
def runI (p : Int → Bool) : Nat → Int → Int
  | 0, i => i
  | n + 1, i => if p i = true then runI p n (i + 1) else i
theorem runI_n {p : Int → Bool} {n : Nat} {i : Int} (hp : ¬ p i = true) : runI p n i = i := by
  cases n with
  | zero => rfl
  | succ n => show (if p i = true then _ else _) = _; rw [if_neg hp]
theorem runI_y {p : Int → Bool} {i N : Int} (h : i < N) (hp : p i = true) : runI p (N - i).toNat i = runI p (N - (i + 1)).toNat (i + 1) := by
  rw [tn_s h]; show (if p i = true then _ else _) = _; rw [if_pos hp]
theorem runI_in (p : Int → Bool) : ∀ (n : Nat) (i : Int), i ≤ runI p n i ∧ runI p n i ≤ i + n
  | 0, i => ⟨Int.le_refl _, by show i ≤ i + ((0 : Nat) : Int); omega⟩
  | n + 1, i => by
    have h := runI_in p n (i + 1)
    show i ≤ (if p i = true then runI p n (i + 1) else i) ∧ (if p i = true then runI p n (i + 1) else i) ≤ _
    split <;> omega
abbrev spcB (B : Int → Int) (L : Int) : Int → Bool := fun i => decide (spcP B L i)
abbrev ltrB (B : Int → Int) (L : Int) : Int → Bool := fun i => decide (ltrP B L i)
abbrev dgtB (B : Int → Int) (L : Int) : Int → Bool := fun i => decide (dgtP B L i)
/-- the token that begins at or behind q: where it begins, its kind (0 end, 1 word, 2 number, 3 symbol), where it ends -/
def tB (B : Int → Int) (L q : Int) : Int := runI (spcB B L) (L - q).toNat q
def tK (B : Int → Int) (L q : Int) : Int := if L ≤ tB B L q then 0 else if ltrP B L (tB B L q) then 1 else if dgtP B L (tB B L q) then 2 else 3
def tN (B : Int → Int) (L q : Int) : Int := if tK B L q = 0 then tB B L q else if tK B L q = 1 then runI (ltrB B L) (L - tB B L q).toNat (tB B L q) else if tK B L q = 2 then runI (dgtB B L) (L - tB B L q).toNat (tB B L q) else tB B L q + 1
theorem tB_in {B : Int → Int} {L q : Int} (h : q ≤ L) : q ≤ tB B L q ∧ tB B L q ≤ L := by
  have h2 := runI_in (spcB B L) (L - q).toNat q
  unfold tB; omega
theorem tK_in (B : Int → Int) (L q : Int) : 0 ≤ tK B L q ∧ tK B L q ≤ 3 := by
  unfold tK; (repeat' split) <;> omega
theorem tN_in {B : Int → Int} {L q : Int} (h : q ≤ L) : tB B L q ≤ tN B L q ∧ tN B L q ≤ L := by
  have h1 := tB_in (B := B) h
  have h2 := runI_in (ltrB B L) (L - tB B L q).toNat (tB B L q)
  have h3 := runI_in (dgtB B L) (L - tB B L q).toNat (tB B L q)
  have h4 : tK B L q = 0 ∨ tB B L q < L := by
    unfold tK; split
    · exact Or.inl rfl
    · exact Or.inr (by omega)
  unfold tN; (repeat' split) <;> omega
theorem rS_id (S : Nat → Int) (j : Nat) : rS S j (S j) = S := by
  funext i; unfold rS; split
  · rename_i e; rw [e]
  · rfl
theorem yo_X4_byteAt : yOK yX4_byteAt 1 := by unfold yOK; exact ⟨by decide +kernel, by decide +kernel, by decide +kernel⟩
set_option maxRecDepth 100000 in
theorem m_byteAt {G : GT} {h : AH} {am : Nat} {ad : Nat → Nat} {nmf : Int → Option Nat} {S : Nat → Int} {Ar : Nat → Int → Int} {M : Int → Int} (hr : RefAt G h am ad nmf S (rA Ar 0 M)) {A : Nat → Prop} (B : Int → Int) (L i : Int) (eB : Ar 12 = B) (eL : S 14 = L) (hL : L ≤ 600) (hi0 : 0 ≤ i) (hi1 : i ≤ 600) : CC G yX4_byteAt cX4_byteAt 2 (some .int) ({ frames := 1, cells := 0, slots := 0, locals := 12 } : Room) A [sref am, .inl i] h (fun v h1 => v = some (.inl (bytM B L i)) ∧ h = h1) := by
  refine CC.of (by decide +kernel) [(0, sref am), (1, .inl i)] rfl (Nat.le_of_ble_eq_true rfl) (fun X hnm hO => ?_)
  refine v_iload_n (pc := 0) hO dX4_byteAt_0 rfl ?_
  refine v_aload_n (pc := 1) hO dX4_byteAt_1 rfl ?_
  refine v_getf (pc := 2) (v := .inl (S 14)) hO cp_X4 14 q2139 hr.ob (by decide) rfl dX4_byteAt_2 ?_
  refine v_icmp_ge (pc := 5) (tgt := 17) hO dX4_byteAt_5 (by decide) (by first | assumption | exact hr.zS 14 | (unfold zR; omega)) (by first | assumption | exact hr.zS 14 | (unfold zR; omega)) (fun c5 => ?_) (fun c5 => ?_)
  · refine v_iconst (pc := 17) hO dX4_byteAt_17 ?_
    exact v_iret hO dX4_byteAt_18 rfl (Nat.le_of_ble_eq_true rfl) (Nat.le_of_ble_eq_true rfl) ⟨congrArg (fun z => some (Sum.inl z)) (by rw [← eB, ← eL]; exact (if_neg (by omega)).symm), rfl⟩
  · refine v_aload_n (pc := 8) hO dX4_byteAt_8 rfl ?_
    refine v_getf (pc := 9) (v := sref (ad 12)) hO cp_X4 12 q2137 hr.ob (by decide) rfl dX4_byteAt_9 ?_
    refine v_iload_n (pc := 12) hO dX4_byteAt_12 rfl ?_
    refine r_iald (pc := 13) (w := Ar 12 i) (L := 600) hO hr 12 ri_12 rfl rfl (by omega) (by omega) dX4_byteAt_13 ?_
    refine v_goto (pc := 14) (tgt := 18) hO dX4_byteAt_14 (by decide) ?_
    exact v_iret hO dX4_byteAt_18 rfl (Nat.le_of_ble_eq_true rfl) (Nat.le_of_ble_eq_true rfl) ⟨congrArg (fun z => some (Sum.inl z)) (by rw [← eB, ← eL]; exact (if_pos (by omega)).symm), rfl⟩
theorem yo_X4_isLetter : yOK yX4_isLetter 1 := by unfold yOK; exact ⟨by decide +kernel, by decide +kernel, by decide +kernel⟩
set_option maxRecDepth 100000 in
theorem m_isLetter {G : GT} {h : AH} {am : Nat} {ad : Nat → Nat} {nmf : Int → Option Nat} {S : Nat → Int} {Ar : Nat → Int → Int} {M : Int → Int} (hr : RefAt G h am ad nmf S (rA Ar 0 M)) {A : Nat → Prop} (B : Int → Int) (L i : Int) (eB : Ar 12 = B) (eL : S 14 = L) (hL : L ≤ 600) (hi0 : 0 ≤ i) (hi1 : i ≤ 600) : CC G yX4_isLetter cX4_isLetter 2 (some .boolean) ({ frames := 2, cells := 0, slots := 0, locals := 33 } : Room) A [sref am, .inl i] h (fun v h1 => v = some (.inl (b2i (decide (ltrP B L i)))) ∧ h = h1) := by
  refine CC.of (by decide +kernel) [(0, sref am), (1, .inl i)] rfl (Nat.le_of_ble_eq_true rfl) (fun X hnm hO => ?_)
  subst eB
  subst eL
  have bytz : ∀ j, zR (bytM (Ar 12) (S 14) j) := (fun j => by have e9 := hr.zA 12 j; unfold bytM; split <;> first | exact e9 | (unfold zR; omega))
  refine v_aload_n (pc := 0) hO dX4_isLetter_0 rfl ?_
  refine v_iload_n (pc := 1) hO dX4_isLetter_1 rfl ?_
  refine v_callV (pc := 2) (b := am) hO cp_X4 hr.ob (m_byteAt hr (Ar 12) (S 14) i rfl rfl (by omega) (by omega) (by omega)) (lw_V q2559 q2561 qs78 q117 q2562) yo_X4_byteAt rfl rfl rfl (by decide) (by decide) (k2 := 0) (n2 := 0) (by decide) (by decide) (by decide) (by decide) dX4_isLetter_2 (fun va hv hp hf1 => ?_)
  obtain ⟨rfl, rfl⟩ := hp
  refine v_bipush (pc := 5) hO dX4_isLetter_5 (by decide +kernel) ?_
  refine v_icmp_lt (pc := 7) (tgt := 24) hO dX4_isLetter_7 (by decide) (by first | assumption | exact bytz _ | (unfold zR; omega)) (by first | assumption | exact bytz _ | (unfold zR; omega)) (fun c7 => ?_) (fun c7 => ?_)
  · refine v_iconst (pc := 24) hO dX4_isLetter_24 ?_
    exact v_zret hO dX4_isLetter_25 rfl (by decide +kernel) (Nat.le_of_ble_eq_true rfl) (Nat.le_of_ble_eq_true rfl) ⟨congrArg (fun z => some (Sum.inl z)) (b2i_f (by omega)).symm, rfl⟩
  · refine v_aload_n (pc := 10) hO dX4_isLetter_10 rfl ?_
    refine v_iload_n (pc := 11) hO dX4_isLetter_11 rfl ?_
    refine v_callV (pc := 12) (b := am) hO cp_X4 hr.ob (m_byteAt hr (Ar 12) (S 14) i rfl rfl (by omega) (by omega) (by omega)) (lw_V q2559 q2561 qs78 q117 q2562) yo_X4_byteAt rfl rfl rfl (by decide) (by decide) (k2 := 0) (n2 := 0) (by decide) (by decide) (by decide) (by decide) dX4_isLetter_12 (fun va hv hp hf1 => ?_)
    obtain ⟨rfl, rfl⟩ := hp
    refine v_bipush (pc := 15) hO dX4_isLetter_15 (by decide +kernel) ?_
    refine v_icmp_gt (pc := 17) (tgt := 24) hO dX4_isLetter_17 (by decide) (by first | assumption | exact bytz _ | (unfold zR; omega)) (by first | assumption | exact bytz _ | (unfold zR; omega)) (fun c17 => ?_) (fun c17 => ?_)
    · refine v_iconst (pc := 24) hO dX4_isLetter_24 ?_
      exact v_zret hO dX4_isLetter_25 rfl (by decide +kernel) (Nat.le_of_ble_eq_true rfl) (Nat.le_of_ble_eq_true rfl) ⟨congrArg (fun z => some (Sum.inl z)) (b2i_f (by omega)).symm, rfl⟩
    · refine v_iconst (pc := 20) hO dX4_isLetter_20 ?_
      refine v_goto (pc := 21) (tgt := 25) hO dX4_isLetter_21 (by decide) ?_
      exact v_zret hO dX4_isLetter_25 rfl (by decide +kernel) (Nat.le_of_ble_eq_true rfl) (Nat.le_of_ble_eq_true rfl) ⟨congrArg (fun z => some (Sum.inl z)) (b2i_t (by omega)).symm, rfl⟩
theorem yo_X4_isDigit : yOK yX4_isDigit 1 := by unfold yOK; exact ⟨by decide +kernel, by decide +kernel, by decide +kernel⟩
set_option maxRecDepth 100000 in
theorem m_isDigit {G : GT} {h : AH} {am : Nat} {ad : Nat → Nat} {nmf : Int → Option Nat} {S : Nat → Int} {Ar : Nat → Int → Int} {M : Int → Int} (hr : RefAt G h am ad nmf S (rA Ar 0 M)) {A : Nat → Prop} (B : Int → Int) (L i : Int) (eB : Ar 12 = B) (eL : S 14 = L) (hL : L ≤ 600) (hi0 : 0 ≤ i) (hi1 : i ≤ 600) : CC G yX4_isDigit cX4_isDigit 2 (some .boolean) ({ frames := 2, cells := 0, slots := 0, locals := 33 } : Room) A [sref am, .inl i] h (fun v h1 => v = some (.inl (b2i (decide (dgtP B L i)))) ∧ h = h1) := by
  refine CC.of (by decide +kernel) [(0, sref am), (1, .inl i)] rfl (Nat.le_of_ble_eq_true rfl) (fun X hnm hO => ?_)
  subst eB
  subst eL
  have bytz : ∀ j, zR (bytM (Ar 12) (S 14) j) := (fun j => by have e9 := hr.zA 12 j; unfold bytM; split <;> first | exact e9 | (unfold zR; omega))
  refine v_aload_n (pc := 0) hO dX4_isDigit_0 rfl ?_
  refine v_iload_n (pc := 1) hO dX4_isDigit_1 rfl ?_
  refine v_callV (pc := 2) (b := am) hO cp_X4 hr.ob (m_byteAt hr (Ar 12) (S 14) i rfl rfl (by omega) (by omega) (by omega)) (lw_V q2559 q2561 qs78 q117 q2562) yo_X4_byteAt rfl rfl rfl (by decide) (by decide) (k2 := 0) (n2 := 0) (by decide) (by decide) (by decide) (by decide) dX4_isDigit_2 (fun va hv hp hf1 => ?_)
  obtain ⟨rfl, rfl⟩ := hp
  refine v_bipush (pc := 5) hO dX4_isDigit_5 (by decide +kernel) ?_
  refine v_icmp_lt (pc := 7) (tgt := 24) hO dX4_isDigit_7 (by decide) (by first | assumption | exact bytz _ | (unfold zR; omega)) (by first | assumption | exact bytz _ | (unfold zR; omega)) (fun c7 => ?_) (fun c7 => ?_)
  · refine v_iconst (pc := 24) hO dX4_isDigit_24 ?_
    exact v_zret hO dX4_isDigit_25 rfl (by decide +kernel) (Nat.le_of_ble_eq_true rfl) (Nat.le_of_ble_eq_true rfl) ⟨congrArg (fun z => some (Sum.inl z)) (b2i_f (by omega)).symm, rfl⟩
  · refine v_aload_n (pc := 10) hO dX4_isDigit_10 rfl ?_
    refine v_iload_n (pc := 11) hO dX4_isDigit_11 rfl ?_
    refine v_callV (pc := 12) (b := am) hO cp_X4 hr.ob (m_byteAt hr (Ar 12) (S 14) i rfl rfl (by omega) (by omega) (by omega)) (lw_V q2559 q2561 qs78 q117 q2562) yo_X4_byteAt rfl rfl rfl (by decide) (by decide) (k2 := 0) (n2 := 0) (by decide) (by decide) (by decide) (by decide) dX4_isDigit_12 (fun va hv hp hf1 => ?_)
    obtain ⟨rfl, rfl⟩ := hp
    refine v_bipush (pc := 15) hO dX4_isDigit_15 (by decide +kernel) ?_
    refine v_icmp_gt (pc := 17) (tgt := 24) hO dX4_isDigit_17 (by decide) (by first | assumption | exact bytz _ | (unfold zR; omega)) (by first | assumption | exact bytz _ | (unfold zR; omega)) (fun c17 => ?_) (fun c17 => ?_)
    · refine v_iconst (pc := 24) hO dX4_isDigit_24 ?_
      exact v_zret hO dX4_isDigit_25 rfl (by decide +kernel) (Nat.le_of_ble_eq_true rfl) (Nat.le_of_ble_eq_true rfl) ⟨congrArg (fun z => some (Sum.inl z)) (b2i_f (by omega)).symm, rfl⟩
    · refine v_iconst (pc := 20) hO dX4_isDigit_20 ?_
      refine v_goto (pc := 21) (tgt := 25) hO dX4_isDigit_21 (by decide) ?_
      exact v_zret hO dX4_isDigit_25 rfl (by decide +kernel) (Nat.le_of_ble_eq_true rfl) (Nat.le_of_ble_eq_true rfl) ⟨congrArg (fun z => some (Sum.inl z)) (b2i_t (by omega)).symm, rfl⟩
theorem yo_X4_scan : yOK yX4_scan 0 := by unfold yOK; exact ⟨by decide +kernel, by decide +kernel, by decide +kernel⟩
set_option maxRecDepth 100000 in
theorem m_scan {G : GT} {h : AH} {am : Nat} {ad : Nat → Nat} {nmf : Int → Option Nat} {S : Nat → Int} {Ar : Nat → Int → Int} {M : Int → Int} (hr : RefAt G h am ad nmf S (rA Ar 0 M)) {A : Nat → Prop} (hA : ∀ q, RA am ad q → A q) (hL0 : 0 ≤ S 14) (hL1 : S 14 ≤ 600) (hq0 : 0 ≤ S 15) (hq1 : S 15 ≤ S 14) : CC G yX4_scan cX4_scan 1 (none) ({ frames := 3, cells := 0, slots := 0, locals := 54 } : Room) A [sref am] h (fun v h1 => v = none ∧ RefAt G h1 am ad nmf (rS (rS (rS S 15 (tN (Ar 12) (S 14) (S 15))) 16 (tB (Ar 12) (S 14) (S 15))) 17 (tK (Ar 12) (S 14) (S 15))) (rA Ar 0 M)) := by
  refine CC.of (by decide +kernel) [(0, sref am)] rfl (Nat.le_of_ble_eq_true rfl) (fun X hnm hO => ?_)
  have hMz : ∀ z, zR (M z) := fun z => hr.zA 0 z
  have hMz : ∀ z, zR (M z) := fun z => hr.zA 0 z
  have hBz : ∀ z, zR (Ar 12 z) := fun z => hr.zA 12 z
  have hSz : ∀ z, zR (S z) := fun z => hr.zS z
  have bytz : ∀ j, zR (bytM (Ar 12) (S 14) j) := (fun j => by have e9 := hBz j; unfold bytM; split <;> first | exact e9 | (unfold zR; omega))
  refine v_pick (lv2 := [(0, sref am)]) [0] rfl ?_
  refine v_loop (σ := Int × AH) (fun (i, hL) => S 15 ≤ i ∧ i ≤ S 14 ∧ RefAt G hL am ad nmf (rS S 15 i) (rA Ar 0 M) ∧ tB (Ar 12) (S 14) (S 15) = runI (spcB (Ar 12) (S 14)) (S 14 - i).toNat i) (fun (i, hL) => (S 14 - i).toNat) (fun (i, hL) => hL) (fun (i, hL) => [(0, sref am)]) (S 15, _) ⟨Int.le_refl _, hq1, (by rw [rS_id]; exact hr), rfl⟩ ?_
  rintro ⟨i, hL⟩ ⟨hi0, hi1, hr, hg⟩ ih
  show VV X G A _ _ _ hL _ _ 0 [(0, sref am)] []
  refine v_aload_n (pc := 0) hO dX4_scan_0 rfl ?_
  refine v_aload_n (pc := 1) hO dX4_scan_1 rfl ?_
  refine v_getf (pc := 2) (v := .inl i) hO cp_X4 15 q2140 hr.ob (by decide) rfl dX4_scan_2 ?_
  refine v_callV (pc := 5) (b := am) hO cp_X4 hr.ob (m_byteAt hr (Ar 12) (S 14) i rfl rfl (by omega) (by omega) (by omega)) (lw_V q2559 q2561 qs78 q117 q2562) yo_X4_byteAt rfl rfl rfl (by decide) (by decide) (k2 := 0) (n2 := 0) (by decide) (by decide) (by decide) (by decide) dX4_scan_5 (fun va hv hp hf1 => ?_)
  obtain ⟨rfl, rfl⟩ := hp
  refine v_bipush (pc := 8) hO dX4_scan_8 (by decide +kernel) ?_
  refine v_icmp_eq (pc := 10) (tgt := 26) hO dX4_scan_10 (by decide) (by first | assumption | exact hSz _ | exact hBz _ | exact bytz _ | exact hr.zS 14 | exact hr.zS 15 | exact hr.zS 16 | (unfold zR; omega)) (by first | assumption | exact hSz _ | exact hBz _ | exact bytz _ | exact hr.zS 14 | exact hr.zS 15 | exact hr.zS 16 | (unfold zR; omega)) (fun c10 => ?_) (fun c10 => ?_)
  · refine v_aload_n (pc := 26) hO dX4_scan_26 rfl ?_
    refine v_dup (pc := 27) hO dX4_scan_27 rfl ?_
    refine v_getf (pc := 28) (v := .inl i) hO cp_X4 15 q2140 hr.ob (by decide) rfl dX4_scan_28 ?_
    refine v_iconst (pc := 31) hO dX4_scan_31 ?_
    refine v_iadd (pc := 32) hO dX4_scan_32 ?_
    refine r_puti (pc := 33) (S2 := (rS S 15 (i + 1))) hO hr hA 15 rn_15 q2140 (rS_rS _ _ _ _) (by first | assumption | exact hSz _ | exact hBz _ | exact bytz _ | exact hr.zS 14 | exact hr.zS 15 | exact hr.zS 16 | (unfold zR; omega)) dX4_scan_33 (fun h hr => ?_)
    refine v_goto (pc := 36) (tgt := 0) hO dX4_scan_36 (by decide) ?_
    refine v_pick (lv2 := [(0, sref am)]) [0] rfl ?_
    exact ih (i + 1, _) ⟨(by omega), (by have e9 : bytM (Ar 12) (S 14) i ≠ -1 := (by omega); unfold bytM at e9; split at e9 <;> omega), hr, (hg.trans (runI_y (p := spcB (Ar 12) (S 14)) (by have e9 : bytM (Ar 12) (S 14) i ≠ -1 := (by omega); unfold bytM at e9; split at e9 <;> omega) (decide_eq_true (by omega))))⟩ (by show (S 14 - (i + 1)).toNat < (S 14 - i).toNat; have e9 : bytM (Ar 12) (S 14) i ≠ -1 := (by omega); unfold bytM at e9; split at e9 <;> omega)
  · refine v_aload_n (pc := 13) hO dX4_scan_13 rfl ?_
    refine v_aload_n (pc := 14) hO dX4_scan_14 rfl ?_
    refine v_getf (pc := 15) (v := .inl i) hO cp_X4 15 q2140 hr.ob (by decide) rfl dX4_scan_15 ?_
    refine v_callV (pc := 18) (b := am) hO cp_X4 hr.ob (m_byteAt hr (Ar 12) (S 14) i rfl rfl (by omega) (by omega) (by omega)) (lw_V q2559 q2561 qs78 q117 q2562) yo_X4_byteAt rfl rfl rfl (by decide) (by decide) (k2 := 0) (n2 := 0) (by decide) (by decide) (by decide) (by decide) dX4_scan_18 (fun va hv hp hf1 => ?_)
    obtain ⟨rfl, rfl⟩ := hp
    refine v_bipush (pc := 21) hO dX4_scan_21 (by decide +kernel) ?_
    refine v_icmp_ne (pc := 23) (tgt := 39) hO dX4_scan_23 (by decide) (by first | assumption | exact hSz _ | exact hBz _ | exact bytz _ | exact hr.zS 14 | exact hr.zS 15 | exact hr.zS 16 | (unfold zR; omega)) (by first | assumption | exact hSz _ | exact hBz _ | exact bytz _ | exact hr.zS 14 | exact hr.zS 15 | exact hr.zS 16 | (unfold zR; omega)) (fun c23 => ?_) (fun c23 => ?_)
    · have eB : tB (Ar 12) (S 14) (S 15) = i := hg.trans (runI_n (fun e8 => absurd (of_decide_eq_true e8) (by omega)))
      refine v_aload_n (pc := 39) hO dX4_scan_39 rfl ?_
      refine v_aload_n (pc := 40) hO dX4_scan_40 rfl ?_
      refine v_getf (pc := 41) (v := .inl i) hO cp_X4 15 q2140 hr.ob (by decide) rfl dX4_scan_41 ?_
      refine r_puti (pc := 44) (S2 := (rS (rS S 15 i) 16 i)) hO hr hA 16 rn_16 q2141 rfl (by first | assumption | exact hSz _ | exact hBz _ | exact bytz _ | exact hr.zS 14 | exact hr.zS 15 | exact hr.zS 16 | (unfold zR; omega)) dX4_scan_44 (fun h hr => ?_)
      refine v_aload_n (pc := 47) hO dX4_scan_47 rfl ?_
      refine v_getf (pc := 48) (v := .inl i) hO cp_X4 15 q2140 hr.ob (by decide) rfl dX4_scan_48 ?_
      refine v_aload_n (pc := 51) hO dX4_scan_51 rfl ?_
      refine v_getf (pc := 52) (v := .inl (S 14)) hO cp_X4 14 q2139 hr.ob (by decide) rfl dX4_scan_52 ?_
      refine v_icmp_lt (pc := 55) (tgt := 66) hO dX4_scan_55 (by decide) (by first | assumption | exact hSz _ | exact hBz _ | exact bytz _ | exact hr.zS 14 | exact hr.zS 15 | exact hr.zS 16 | (unfold zR; omega)) (by first | assumption | exact hSz _ | exact hBz _ | exact bytz _ | exact hr.zS 14 | exact hr.zS 15 | exact hr.zS 16 | (unfold zR; omega)) (fun c55 => ?_) (fun c55 => ?_)
      · refine v_aload_n (pc := 66) hO dX4_scan_66 rfl ?_
        refine v_aload_n (pc := 67) hO dX4_scan_67 rfl ?_
        refine v_getf (pc := 68) (v := .inl i) hO cp_X4 15 q2140 hr.ob (by decide) rfl dX4_scan_68 ?_
        refine v_callV (pc := 71) (b := am) hO cp_X4 hr.ob (m_isLetter hr (Ar 12) (S 14) i rfl rfl (by omega) (by omega) (by omega)) (lw_V q2563 q2565 qs79 q117 q2566) yo_X4_isLetter rfl rfl rfl (by decide) (by decide) (k2 := 0) (n2 := 0) (by decide) (by decide) (by decide) (by decide) dX4_scan_71 (fun va hv hp hf1 => ?_)
        obtain ⟨rfl, rfl⟩ := hp
        refine v_ifb_eq (pc := 74) (tgt := 109) hO dX4_scan_74 (by decide) (fun c74 => ?_) (fun c74 => ?_)
        · refine v_aload_n (pc := 109) hO dX4_scan_109 rfl ?_
          refine v_aload_n (pc := 110) hO dX4_scan_110 rfl ?_
          refine v_getf (pc := 111) (v := .inl i) hO cp_X4 15 q2140 hr.ob (by decide) rfl dX4_scan_111 ?_
          refine v_callV (pc := 114) (b := am) hO cp_X4 hr.ob (m_isDigit hr (Ar 12) (S 14) i rfl rfl (by omega) (by omega) (by omega)) (lw_V q2567 q2569 qs80 q117 q2570) yo_X4_isDigit rfl rfl rfl (by decide) (by decide) (k2 := 0) (n2 := 0) (by decide) (by decide) (by decide) (by decide) dX4_scan_114 (fun va hv hp hf1 => ?_)
          obtain ⟨rfl, rfl⟩ := hp
          refine v_ifb_eq (pc := 117) (tgt := 152) hO dX4_scan_117 (by decide) (fun c117 => ?_) (fun c117 => ?_)
          · refine v_aload_n (pc := 152) hO dX4_scan_152 rfl ?_
            refine v_dup (pc := 153) hO dX4_scan_153 rfl ?_
            refine v_getf (pc := 154) (v := .inl i) hO cp_X4 15 q2140 hr.ob (by decide) rfl dX4_scan_154 ?_
            refine v_iconst (pc := 157) hO dX4_scan_157 ?_
            refine v_iadd (pc := 158) hO dX4_scan_158 ?_
            refine r_puti (pc := 159) (S2 := (rS (rS S 15 (i + 1)) 16 i)) hO hr hA 15 rn_15 q2140 (by funext i; simp only [rS]; repeat' split <;> first | rfl | omega) (by first | assumption | exact hSz _ | exact hBz _ | exact bytz _ | exact hr.zS 14 | exact hr.zS 15 | exact hr.zS 16 | (unfold zR; omega)) dX4_scan_159 (fun h hr => ?_)
            refine v_aload_n (pc := 162) hO dX4_scan_162 rfl ?_
            refine v_iconst (pc := 163) hO dX4_scan_163 ?_
            refine r_puti (pc := 164) (S2 := (rS (rS (rS S 15 (i + 1)) 16 i) 17 3)) hO hr hA 17 rn_17 q2142 rfl (by first | assumption | exact hSz _ | exact hBz _ | exact bytz _ | exact hr.zS 14 | exact hr.zS 15 | exact hr.zS 16 | (unfold zR; omega)) dX4_scan_164 (fun h hr => ?_)
            exact v_vret hO dX4_scan_167 rfl (Nat.le_of_ble_eq_true rfl) (Nat.le_of_ble_eq_true rfl) ⟨rfl, by have eK : tK (Ar 12) (S 14) (S 15) = 3 := (by unfold tK; rw [eB, if_neg (by omega), if_neg (by omega), if_neg (by omega)]); have eN : tN (Ar 12) (S 14) (S 15) = i + 1 := (by unfold tN; rw [eK, if_neg (by decide), if_neg (by decide), if_neg (by decide), eB]); rw [eK, eN, eB]; exact hr⟩
          · refine v_pick (lv2 := [(0, sref am)]) [0] rfl ?_
            refine v_loop (σ := Int × AH) (fun (j, hL) => i ≤ j ∧ j ≤ S 14 ∧ RefAt G hL am ad nmf (rS (rS S 15 j) 16 i) (rA Ar 0 M) ∧ runI (dgtB (Ar 12) (S 14)) (S 14 - i).toNat i = runI (dgtB (Ar 12) (S 14)) (S 14 - j).toNat j) (fun (j, hL) => (S 14 - j).toNat) (fun (j, hL) => hL) (fun (j, hL) => [(0, sref am)]) (i, _) ⟨Int.le_refl _, hi1, hr, rfl⟩ ?_
            rintro ⟨j, hL⟩ ⟨hj0, hj1, hr, hh⟩ ihB
            show VV X G A _ _ _ hL _ _ 120 [(0, sref am)] []
            refine v_aload_n (pc := 120) hO dX4_scan_120 rfl ?_
            refine v_aload_n (pc := 121) hO dX4_scan_121 rfl ?_
            refine v_getf (pc := 122) (v := .inl j) hO cp_X4 15 q2140 hr.ob (by decide) rfl dX4_scan_122 ?_
            refine v_callV (pc := 125) (b := am) hO cp_X4 hr.ob (m_isDigit hr (Ar 12) (S 14) j rfl rfl (by omega) (by omega) (by omega)) (lw_V q2567 q2569 qs80 q117 q2570) yo_X4_isDigit rfl rfl rfl (by decide) (by decide) (k2 := 0) (n2 := 0) (by decide) (by decide) (by decide) (by decide) dX4_scan_125 (fun va hv hp hf1 => ?_)
            obtain ⟨rfl, rfl⟩ := hp
            refine v_ifb_eq (pc := 128) (tgt := 144) hO dX4_scan_128 (by decide) (fun c128 => ?_) (fun c128 => ?_)
            · refine v_aload_n (pc := 144) hO dX4_scan_144 rfl ?_
              refine v_iconst (pc := 145) hO dX4_scan_145 ?_
              refine r_puti (pc := 146) (S2 := (rS (rS (rS S 15 j) 16 i) 17 2)) hO hr hA 17 rn_17 q2142 rfl (by first | assumption | exact hSz _ | exact hBz _ | exact bytz _ | exact hr.zS 14 | exact hr.zS 15 | exact hr.zS 16 | (unfold zR; omega)) dX4_scan_146 (fun h hr => ?_)
              refine v_goto (pc := 149) (tgt := 167) hO dX4_scan_149 (by decide) ?_
              exact v_vret hO dX4_scan_167 rfl (Nat.le_of_ble_eq_true rfl) (Nat.le_of_ble_eq_true rfl) ⟨rfl, by have eK : tK (Ar 12) (S 14) (S 15) = 2 := (by unfold tK; rw [eB, if_neg (by omega), if_neg (by omega), if_pos (by omega)]); have eN : tN (Ar 12) (S 14) (S 15) = j := (by unfold tN; rw [eK, if_neg (by decide), if_neg (by decide), if_pos rfl, eB]; exact hh.trans (runI_n (fun e8 => absurd (of_decide_eq_true e8) (by omega)))); rw [eK, eN, eB]; exact hr⟩
            · refine v_aload_n (pc := 131) hO dX4_scan_131 rfl ?_
              refine v_dup (pc := 132) hO dX4_scan_132 rfl ?_
              refine v_getf (pc := 133) (v := .inl j) hO cp_X4 15 q2140 hr.ob (by decide) rfl dX4_scan_133 ?_
              refine v_iconst (pc := 136) hO dX4_scan_136 ?_
              refine v_iadd (pc := 137) hO dX4_scan_137 ?_
              refine r_puti (pc := 138) (S2 := (rS (rS S 15 (j + 1)) 16 i)) hO hr hA 15 rn_15 q2140 (by funext i; simp only [rS]; repeat' split <;> first | rfl | omega) (by first | assumption | exact hSz _ | exact hBz _ | exact bytz _ | exact hr.zS 14 | exact hr.zS 15 | exact hr.zS 16 | (unfold zR; omega)) dX4_scan_138 (fun h hr => ?_)
              refine v_goto (pc := 141) (tgt := 120) hO dX4_scan_141 (by decide) ?_
              refine v_pick (lv2 := [(0, sref am)]) [0] rfl ?_
              exact ihB (j + 1, _) ⟨(by omega), (by have e9 : bytM (Ar 12) (S 14) j ≠ -1 := (by omega); unfold bytM at e9; split at e9 <;> omega), hr, (hh.trans (runI_y (p := dgtB (Ar 12) (S 14)) (by have e9 : bytM (Ar 12) (S 14) j ≠ -1 := (by omega); unfold bytM at e9; split at e9 <;> omega) (decide_eq_true (by omega))))⟩ (by show (S 14 - (j + 1)).toNat < (S 14 - j).toNat; have e9 : bytM (Ar 12) (S 14) j ≠ -1 := (by omega); unfold bytM at e9; split at e9 <;> omega)
        · refine v_pick (lv2 := [(0, sref am)]) [0] rfl ?_
          refine v_loop (σ := Int × AH) (fun (j, hL) => i ≤ j ∧ j ≤ S 14 ∧ RefAt G hL am ad nmf (rS (rS S 15 j) 16 i) (rA Ar 0 M) ∧ runI (ltrB (Ar 12) (S 14)) (S 14 - i).toNat i = runI (ltrB (Ar 12) (S 14)) (S 14 - j).toNat j) (fun (j, hL) => (S 14 - j).toNat) (fun (j, hL) => hL) (fun (j, hL) => [(0, sref am)]) (i, _) ⟨Int.le_refl _, hi1, hr, rfl⟩ ?_
          rintro ⟨j, hL⟩ ⟨hj0, hj1, hr, hh⟩ ihB
          show VV X G A _ _ _ hL _ _ 77 [(0, sref am)] []
          refine v_aload_n (pc := 77) hO dX4_scan_77 rfl ?_
          refine v_aload_n (pc := 78) hO dX4_scan_78 rfl ?_
          refine v_getf (pc := 79) (v := .inl j) hO cp_X4 15 q2140 hr.ob (by decide) rfl dX4_scan_79 ?_
          refine v_callV (pc := 82) (b := am) hO cp_X4 hr.ob (m_isLetter hr (Ar 12) (S 14) j rfl rfl (by omega) (by omega) (by omega)) (lw_V q2563 q2565 qs79 q117 q2566) yo_X4_isLetter rfl rfl rfl (by decide) (by decide) (k2 := 0) (n2 := 0) (by decide) (by decide) (by decide) (by decide) dX4_scan_82 (fun va hv hp hf1 => ?_)
          obtain ⟨rfl, rfl⟩ := hp
          refine v_ifb_eq (pc := 85) (tgt := 101) hO dX4_scan_85 (by decide) (fun c85 => ?_) (fun c85 => ?_)
          · refine v_aload_n (pc := 101) hO dX4_scan_101 rfl ?_
            refine v_iconst (pc := 102) hO dX4_scan_102 ?_
            refine r_puti (pc := 103) (S2 := (rS (rS (rS S 15 j) 16 i) 17 1)) hO hr hA 17 rn_17 q2142 rfl (by first | assumption | exact hSz _ | exact hBz _ | exact bytz _ | exact hr.zS 14 | exact hr.zS 15 | exact hr.zS 16 | (unfold zR; omega)) dX4_scan_103 (fun h hr => ?_)
            refine v_goto (pc := 106) (tgt := 167) hO dX4_scan_106 (by decide) ?_
            exact v_vret hO dX4_scan_167 rfl (Nat.le_of_ble_eq_true rfl) (Nat.le_of_ble_eq_true rfl) ⟨rfl, by have eK : tK (Ar 12) (S 14) (S 15) = 1 := (by unfold tK; rw [eB, if_neg (by omega), if_pos (by omega)]); have eN : tN (Ar 12) (S 14) (S 15) = j := (by unfold tN; rw [eK, if_neg (by decide), if_pos rfl, eB]; exact hh.trans (runI_n (fun e8 => absurd (of_decide_eq_true e8) (by omega)))); rw [eK, eN, eB]; exact hr⟩
          · refine v_aload_n (pc := 88) hO dX4_scan_88 rfl ?_
            refine v_dup (pc := 89) hO dX4_scan_89 rfl ?_
            refine v_getf (pc := 90) (v := .inl j) hO cp_X4 15 q2140 hr.ob (by decide) rfl dX4_scan_90 ?_
            refine v_iconst (pc := 93) hO dX4_scan_93 ?_
            refine v_iadd (pc := 94) hO dX4_scan_94 ?_
            refine r_puti (pc := 95) (S2 := (rS (rS S 15 (j + 1)) 16 i)) hO hr hA 15 rn_15 q2140 (by funext i; simp only [rS]; repeat' split <;> first | rfl | omega) (by first | assumption | exact hSz _ | exact hBz _ | exact bytz _ | exact hr.zS 14 | exact hr.zS 15 | exact hr.zS 16 | (unfold zR; omega)) dX4_scan_95 (fun h hr => ?_)
            refine v_goto (pc := 98) (tgt := 77) hO dX4_scan_98 (by decide) ?_
            refine v_pick (lv2 := [(0, sref am)]) [0] rfl ?_
            exact ihB (j + 1, _) ⟨(by omega), (by have e9 : bytM (Ar 12) (S 14) j ≠ -1 := (by omega); unfold bytM at e9; split at e9 <;> omega), hr, (hh.trans (runI_y (p := ltrB (Ar 12) (S 14)) (by have e9 : bytM (Ar 12) (S 14) j ≠ -1 := (by omega); unfold bytM at e9; split at e9 <;> omega) (decide_eq_true (by omega))))⟩ (by show (S 14 - (j + 1)).toNat < (S 14 - j).toNat; have e9 : bytM (Ar 12) (S 14) j ≠ -1 := (by omega); unfold bytM at e9; split at e9 <;> omega)
      · refine v_aload_n (pc := 58) hO dX4_scan_58 rfl ?_
        refine v_iconst (pc := 59) hO dX4_scan_59 ?_
        refine r_puti (pc := 60) (S2 := (rS (rS (rS S 15 i) 16 i) 17 0)) hO hr hA 17 rn_17 q2142 rfl (by first | assumption | exact hSz _ | exact hBz _ | exact bytz _ | exact hr.zS 14 | exact hr.zS 15 | exact hr.zS 16 | (unfold zR; omega)) dX4_scan_60 (fun h hr => ?_)
        refine v_goto (pc := 63) (tgt := 167) hO dX4_scan_63 (by decide) ?_
        exact v_vret hO dX4_scan_167 rfl (Nat.le_of_ble_eq_true rfl) (Nat.le_of_ble_eq_true rfl) ⟨rfl, by have eK : tK (Ar 12) (S 14) (S 15) = 0 := (by unfold tK; rw [eB, if_pos (by omega)]); have eN : tN (Ar 12) (S 14) (S 15) = i := (by unfold tN; rw [eK, if_pos rfl, eB]); rw [eK, eN, eB]; exact hr⟩
    · refine v_aload_n (pc := 26) hO dX4_scan_26 rfl ?_
      refine v_dup (pc := 27) hO dX4_scan_27 rfl ?_
      refine v_getf (pc := 28) (v := .inl i) hO cp_X4 15 q2140 hr.ob (by decide) rfl dX4_scan_28 ?_
      refine v_iconst (pc := 31) hO dX4_scan_31 ?_
      refine v_iadd (pc := 32) hO dX4_scan_32 ?_
      refine r_puti (pc := 33) (S2 := (rS S 15 (i + 1))) hO hr hA 15 rn_15 q2140 (rS_rS _ _ _ _) (by first | assumption | exact hSz _ | exact hBz _ | exact bytz _ | exact hr.zS 14 | exact hr.zS 15 | exact hr.zS 16 | (unfold zR; omega)) dX4_scan_33 (fun h hr => ?_)
      refine v_goto (pc := 36) (tgt := 0) hO dX4_scan_36 (by decide) ?_
      refine v_pick (lv2 := [(0, sref am)]) [0] rfl ?_
      exact ih (i + 1, _) ⟨(by omega), (by have e9 : bytM (Ar 12) (S 14) i ≠ -1 := (by omega); unfold bytM at e9; split at e9 <;> omega), hr, (hg.trans (runI_y (p := spcB (Ar 12) (S 14)) (by have e9 : bytM (Ar 12) (S 14) i ≠ -1 := (by omega); unfold bytM at e9; split at e9 <;> omega) (decide_eq_true (by omega))))⟩ (by show (S 14 - (i + 1)).toNat < (S 14 - i).toNat; have e9 : bytM (Ar 12) (S 14) i ≠ -1 := (by omega); unfold bytM at e9; split at e9 <;> omega)
