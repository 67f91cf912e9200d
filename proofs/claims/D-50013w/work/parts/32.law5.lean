/-! THE BOARD: orders through a turn, turns in a row -/
set_option maxRecDepth 100000
theorem snd1_old {M : Int → Int} (h4 : 0 ≤ M 4) (p : Int) : (∀ z, 12 ≤ z → z < 64 + 10 * M 4 → snd1 p M z = M z) ∧ M 4 ≤ snd1 p M 4 := by
  unfold snd1
  split
  · refine ⟨fun z z0 z1 => ?_, ?_⟩
    · unfold dspM
      rw [zupd_n (by omega), zupd_n (by omega), zupd_n (by omega), zupd_n (by omega), zupd_n (by omega), zupd_n (by omega), zupd_n (by omega), zupd_n (by omega), zupd_n (by omega), zupd_n (by omega), zupd_n (by omega)]
    · unfold dspM; rw [zupd_s]; omega
  · exact ⟨fun _ _ _ => rfl, Int.le_refl _⟩
theorem snd_old : ∀ (n : Nat) (i : Int) (M : Int → Int), 0 ≤ M 4 → (∀ z, 12 ≤ z → z < 64 + 10 * M 4 → itI snd1 n i M z = M z) ∧ M 4 ≤ itI snd1 n i M 4
  | 0, _, _, _ => ⟨fun _ _ _ => rfl, Int.le_refl _⟩
  | n + 1, i, M, h4 => by
    obtain ⟨a, b⟩ := snd1_old h4 i
    obtain ⟨c, d⟩ := snd_old n (i + 1) (snd1 i M) (by omega)
    exact ⟨fun z z0 z1 => (c z z0 (by omega)).trans (a z z0 z1), Int.le_trans b d⟩
theorem sndM_old {M : Int → Int} (h4 : 0 ≤ M 4) : (∀ z, 12 ≤ z → z < 64 + 10 * M 4 → sndM M z = M z) ∧ M 4 ≤ sndM M 4 := snd_old _ 0 M h4
theorem movM_0 {M : Int → Int} (h : Bq M) {u o : Int} (g0 : 0 ≤ u) (g1 : u < M 2) (o0 : 0 ≤ o) (o1 : o < M 4) (hz : movM u M (64 + 10 * o + 3) = 0) : M (64 + 10 * o + 3) = 0 := by
  unfold movM at hz
  have h4 := h.h4
  have h7 := h.h7
  rcases obyM_in M u h.h4 with e | ⟨b0, b1, b2, b3⟩
  · rw [if_pos e] at hz; exact hz
  · rw [if_neg (by omega)] at hz
    obtain ⟨a, b, c⟩ := mvwM_Bq h (u := u) (o := obyM M u) g0 g1
    unfold mvdM at hz
    have e7 : mvwM M u (obyM M u) 7 = M 7 := c 7 (by omega)
    have e4 : mvwM M u (obyM M u) 4 = M 4 := c 4 (by omega)
    have es : mvwM M u (obyM M u) (64 + 10 * obyM M u + 3) = 1 := by rw [c _ (by omega)]; exact b3
    have hr := a.room b0 (by rw [e4]; exact b1)
    rw [wtM_1 es] at hr
    split at hz
    · by_cases e : o = obyM M u
      · rw [e, becM_3] at hz; omega
      · rw [becM_n (by omega) (by omega) (by omega) (by omega) (by omega) (by omega), c _ (by omega)] at hz
        exact hz
    · rw [c _ (by omega)] at hz; exact hz
theorem ps3_0 {o : Int} (o0 : 0 ≤ o) : ∀ (n : Nat) (i : Int) (M : Int → Int), 0 ≤ i → Bq M → i + n ≤ M 2 → o < M 4 → itI movM n i M (64 + 10 * o + 3) = 0 → M (64 + 10 * o + 3) = 0
  | 0, _, _, _, _, _, _, hz => hz
  | n + 1, i, M, i0, h, hn, o1, hz => by
    obtain ⟨a, b⟩ := movM_Bq h i0 (show i < M 2 by omega)
    have e2 := b 2 (by omega)
    have e4 := b 4 (by omega)
    exact movM_0 h i0 (show i < M 2 by omega) o0 o1 (ps3_0 o0 n (i + 1) (movM i M) (by omega) a (by omega) (by omega) hz)
theorem los1_o {M : Int → Int} (h : Bq M) {i o : Int} (i0 : 0 ≤ i) (i1 : i < M 4) (o0 : 0 ≤ o) (o1 : o < M 4) (hz : los1 i M (64 + 10 * o + 3) = 0) : M (64 + 10 * o + 3) = 0 ∧ (i = o → ¬ (M 9 ≤ M 5 - M (64 + 10 * o + 4))) := by
  have h4 := h.h4
  have h7 := h.room i0 i1
  unfold los1 at hz
  split at hz
  · rename_i hs
    rw [wtM_0 hs.1] at h7
    by_cases e : o = i
    · rw [e, becM_3] at hz; omega
    · rw [becM_n (by omega) (by omega) (by omega) (by omega) (by omega) (by omega)] at hz
      exact ⟨hz, fun e2 => absurd e2.symm e⟩
  · rename_i hs
    exact ⟨hz, fun e => by subst e; exact fun e2 => hs ⟨hz, e2⟩⟩
theorem ps2_0 {o : Int} (o0 : 0 ≤ o) : ∀ (n : Nat) (i : Int) (M : Int → Int), 0 ≤ i → Bq M → i + n ≤ M 4 → o < M 4 → itI los1 n i M (64 + 10 * o + 3) = 0 → M (64 + 10 * o + 3) = 0 ∧ (i ≤ o → o < i + n → ¬ (M 9 ≤ M 5 - M (64 + 10 * o + 4)))
  | 0, _, _, _, _, _, _, hz => ⟨hz, fun a b => by omega⟩
  | n + 1, i, M, i0, h, hn, o1, hz => by
    obtain ⟨a, b⟩ := los1_Bq h i0 (show i < M 4 by omega)
    have e4 := b 4 (by omega)
    have e5 := b 5 (by omega)
    have e9 := b 9 (by omega)
    have h4 := h.h4
    have es := b (64 + 10 * o + 4) (by omega)
    obtain ⟨q1, q2⟩ := ps2_0 o0 n (i + 1) (los1 i M) (by omega) a (by omega) (by omega) hz
    obtain ⟨q3, q4⟩ := los1_o h i0 (show i < M 4 by omega) o0 o1 q1
    refine ⟨q3, fun a1 a2 => ?_⟩
    by_cases e : i = o
    · exact q4 e
    · have q5 := q2 (by omega) (by omega)
      rw [e9, e5, es] at q5
      exact q5
/-- orders' fixed numbers through a turn -/
theorem pas_ord {M : Int → Int} (h : Bq M) (h5 : M 5 ≤ 599) {o f : Int} (o0 : 0 ≤ o) (o1 : o < M 4) (hf : f = 0 ∨ f = 1 ∨ f = 2 ∨ f = 4) : pasM M (64 + 10 * o + f) = M (64 + 10 * o + f) := by
  have h4 := h.h4
  obtain ⟨a1, b1⟩ := sndM_Bq h
  obtain ⟨a2, b2⟩ := ps1_Bq a1
  obtain ⟨a3, b3⟩ := ps2_Bq a2
  obtain ⟨a4, b4⟩ := ps3_Bq a3
  have e5 : ps3M (ps2M (ps1M (sndM M))) 5 = M 5 := (((b1.tr b2.cw).tr b3.cw).tr b4.cw) 5 (by omega)
  obtain ⟨a5, b5⟩ := trn_Bq a4 (by omega)
  obtain ⟨a6, b6⟩ := remM_Bq a5
  unfold pasM
  rw [b6 _ (by omega), b5 _ (by omega), b4 _ (by omega), b3 _ (by omega), b2 _ (by omega)]
  exact (sndM_old h4.1).1 _ (by omega) (by omega)
theorem pas_4 {M : Int → Int} (h : Bq M) (h5 : M 5 ≤ 599) : M 4 ≤ pasM M 4 := by
  have h4 := h.h4
  obtain ⟨a1, b1⟩ := sndM_Bq h
  obtain ⟨a2, b2⟩ := ps1_Bq a1
  obtain ⟨a3, b3⟩ := ps2_Bq a2
  obtain ⟨a4, b4⟩ := ps3_Bq a3
  have e5 : ps3M (ps2M (ps1M (sndM M))) 5 = M 5 := (((b1.tr b2.cw).tr b3.cw).tr b4.cw) 5 (by omega)
  obtain ⟨a5, b5⟩ := trn_Bq a4 (by omega)
  obtain ⟨a6, b6⟩ := remM_Bq a5
  unfold pasM
  rw [b6 _ (by omega), b5 _ (by omega), b4 _ (by omega), b3 _ (by omega), b2 _ (by omega)]
  exact (sndM_old h4.1).2
/-- an order that is on its way behind a turn has patience left -/
theorem pas_lost {M : Int → Int} (h : Bq M) (h5 : M 5 ≤ 599) {o : Int} (o0 : 0 ≤ o) (o1 : o < M 4) (hz : pasM M (64 + 10 * o + 3) = 0) : M 5 - M (64 + 10 * o + 4) < M 9 := by
  have h4 := h.h4
  obtain ⟨a1, b1⟩ := sndM_Bq h
  obtain ⟨a2, b2⟩ := ps1_Bq a1
  obtain ⟨a3, b3⟩ := ps2_Bq a2
  obtain ⟨a4, b4⟩ := ps3_Bq a3
  have e5 : ps3M (ps2M (ps1M (sndM M))) 5 = M 5 := (((b1.tr b2.cw).tr b3.cw).tr b4.cw) 5 (by omega)
  obtain ⟨a5, b5⟩ := trn_Bq a4 (by omega)
  obtain ⟨a6, b6⟩ := remM_Bq a5
  obtain ⟨s1, s2⟩ := sndM_old h4.1
  have k1 := b2 4 (by omega)
  have k2 := b3 4 (by omega)
  have h2 := a3.1.2.1
  unfold pasM at hz
  rw [b6 _ (by omega), b5 _ (by omega)] at hz
  have z3 := ps3_0 o0 _ 0 (ps2M (ps1M (sndM M))) (Int.le_refl _) a3 (by omega) (by omega) hz
  have h42 := a2.h4
  have z2 := (ps2_0 o0 _ 0 (ps1M (sndM M)) (Int.le_refl _) a2 (by omega) (by omega) z3).2 o0 (by omega)
  rw [b2 9 (by omega), b2 5 (by omega), b2 (64 + 10 * o + 4) (by omega), b1 9 (by omega), b1 5 (by omega), s1 _ (by omega) (by omega)] at z2
  omega
def psN (M : Int → Int) (n : Int) : Int → Int := itI (fun _ => pasM) (n - 0).toNat 0 M
def whl {α : Type} (c : α → Bool) (f : α → α) : Nat → α → α
  | 0, a => a
  | n + 1, a => if c a = true then whl c f n (f a) else a
theorem whl_e {α : Type} {c : α → Bool} {f : α → α} {n : Nat} {a : α} (h : ¬ c a = true) : whl c f n a = a := by
  cases n with
  | zero => rfl
  | succ n => show (if c a = true then _ else _) = _; rw [if_neg h]
theorem whl_s {α : Type} {c : α → Bool} {f : α → α} {n : Nat} {a : α} (h : c a = true) : whl c f (n + 1) a = whl c f n (f a) := by
  show (if c a = true then _ else _) = _; rw [if_pos h]
/-- until an order isn't on its way -/
def arwM (M : Int → Int) (o : Int) : Int → Int := whl (fun N => decide (N (64 + 10 * o + 3) = 0)) pasM 40 M
def arlM (M : Int → Int) (u x y : Int) : Int := if M 4 = 40 then -1 else arwM (dspM M u x y) (M 4) (64 + 10 * M 4 + 5)
theorem psN_it {M : Int → Int} : ∀ (n : Nat) (i : Int), Bq M → M 5 + n ≤ 600 → Bq (itI (fun _ => pasM) n i M) ∧ itI (fun _ => pasM) n i M 5 = M 5 + n ∧ (∀ z, (0 ≤ z ∧ z < 12 ∧ z ≠ 7 ∧ z ≠ 4 ∧ z ≠ 5) ∨ (464 ≤ z ∧ z < 544) ∨ (784 ≤ z ∧ z < 928) → itI (fun _ => pasM) n i M z = M z) ∧ M 4 ≤ itI (fun _ => pasM) n i M 4 := by
  intro n
  induction n generalizing M with
  | zero => intro i h _; exact ⟨h, by show M 5 = M 5 + ((0 : Nat) : Int); omega, fun _ _ => rfl, Int.le_refl _⟩
  | succ n ih =>
    intro i h h5
    obtain ⟨a, b, c⟩ := pasM_Bq h (by omega)
    have d := pas_4 h (by omega)
    obtain ⟨a2, b2, c2, d2⟩ := ih (i + 1) a (by omega)
    exact ⟨a2, by show itI (fun _ => pasM) n (i + 1) (pasM M) 5 = _; omega, fun z hz => (c2 z hz).trans (c z hz), Int.le_trans d d2⟩
theorem psN_Bq {M : Int → Int} (h : Bq M) {n : Int} (n0 : 0 ≤ n) (h5 : M 5 + n ≤ 600) : Bq (psN M n) ∧ psN M n 5 = M 5 + n ∧ (∀ z, (0 ≤ z ∧ z < 12 ∧ z ≠ 7 ∧ z ≠ 4 ∧ z ≠ 5) ∨ (464 ≤ z ∧ z < 544) ∨ (784 ≤ z ∧ z < 928) → psN M n z = M z) ∧ M 4 ≤ psN M n 4 := by
  obtain ⟨a, b, c, d⟩ := psN_it (n - 0).toNat 0 h (by omega)
  exact ⟨a, by unfold psN; omega, c, d⟩
