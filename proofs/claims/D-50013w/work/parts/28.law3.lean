/-! THE BOARD's INVARIANT through a turn -/
set_option maxRecDepth 100000
theorem dspM_Bq {M : Int → Int} (h : Bq M) {u x y : Int} (h40 : M 4 < 40) (u0 : 0 ≤ u) (u1 : u < M 2) : Bq (dspM M u x y) ∧ (∀ z, z ≠ 4 → (z < 64 + 10 * M 4 ∨ 64 + 10 * M 4 + 10 ≤ z) → dspM M u x y z = M z) ∧ dspM M u x y 4 = M 4 + 1 := by
  obtain ⟨⟨d0, h2, h4, h5, h8, h9, hh, hp⟩, hU, hO, hN, hE, hC, hL⟩ := h
  have hA := hC.all h4
  have he : ∀ z, z ≠ 4 → (z < 64 + 10 * M 4 ∨ 64 + 10 * M 4 + 10 ≤ z) → dspM M u x y z = M z := fun z a b => by
    unfold dspM
    rw [zupd_n a, zupd_n (by omega), zupd_n (by omega), zupd_n (by omega), zupd_n (by omega), zupd_n (by omega), zupd_n (by omega), zupd_n (by omega), zupd_n (by omega), zupd_n (by omega), zupd_n (by omega)]
  have e4 : dspM M u x y 4 = M 4 + 1 := zupd_s _ _ _
  have k0 : dspM M u x y (64 + 10 * M 4 + 0) = u := by
    unfold dspM
    rw [zupd_n (by omega), zupd_n (by omega), zupd_n (by omega), zupd_n (by omega), zupd_n (by omega), zupd_n (by omega), zupd_n (by omega), zupd_n (by omega), zupd_n (by omega), zupd_n (by omega), zupd_s]
  have k3 : dspM M u x y (64 + 10 * M 4 + 3) = 0 := by
    unfold dspM
    rw [zupd_n (by omega), zupd_n (by omega), zupd_n (by omega), zupd_n (by omega), zupd_n (by omega), zupd_n (by omega), zupd_n (by omega), zupd_s]
  have k4 : dspM M u x y (64 + 10 * M 4 + 4) = M 5 := by
    unfold dspM
    rw [zupd_n (by omega), zupd_n (by omega), zupd_n (by omega), zupd_n (by omega), zupd_n (by omega), zupd_n (by omega), zupd_s]
  have k6 : dspM M u x y (64 + 10 * M 4 + 6) = -1 := by
    unfold dspM
    rw [zupd_n (by omega), zupd_n (by omega), zupd_n (by omega), zupd_n (by omega), zupd_s]
  have k7 : dspM M u x y (64 + 10 * M 4 + 7) = M 10 := by
    unfold dspM
    rw [zupd_n (by omega), zupd_n (by omega), zupd_n (by omega), zupd_s]
  have k8 : dspM M u x y (64 + 10 * M 4 + 8) = M 11 := by
    unfold dspM
    rw [zupd_n (by omega), zupd_n (by omega), zupd_s]
  have e0 := he 0 (by omega) (by omega)
  have e1 := he 1 (by omega) (by omega)
  have e2 := he 2 (by omega) (by omega)
  have e5 := he 5 (by omega) (by omega)
  have e7 := he 7 (by omega) (by omega)
  have e8 := he 8 (by omega) (by omega)
  have hw : ∀ c, 784 ≤ c → c < 928 → dspM M u x y c = M c := fun c c0 c1 => he c (by omega) (by omega)
  refine ⟨⟨⟨by unfold dimM; omega, by omega, by omega, by omega, by omega, by rw [he 9 (by omega) (by omega)]; exact h9, ?_, ?_⟩, fun v u0 u1 => ?_, fun o1 o0 o2 => ?_, fun p p0 p1 => ?_, fun e ge ge1 => ?_, ?_, ?_, ?_⟩, he, e4⟩
  · rw [he 10 (by omega) (by omega), he 11 (by omega) (by omega)]; exact freM_eq e0 e1 d0 hw hh
  · exact picsB_eq hp (he 3 (by omega) (by omega)) (fun z z0 z1 z2 => he z (by omega) (by omega))
  · rw [e2] at u1
    obtain ⟨q1, q2⟩ := hU v u0 u1
    rw [he (12 + 4 * v + 0) (by omega) (by omega), he (12 + 4 * v + 1) (by omega) (by omega), he (12 + 4 * v + 2) (by omega) (by omega)]
    exact ⟨freM_eq e0 e1 d0 hw q1, q2⟩
  · rw [e4] at o2
    unfold ordB
    rw [e2, e5]
    by_cases e : o1 = M 4
    · subst e
      rw [k0, k3, k4, k6, k7, k8]
      exact ⟨by omega, by omega, by omega, fun _ => ⟨freM_eq e0 e1 d0 hw hh, rfl⟩⟩
    · obtain ⟨q1, q2, q3, q4⟩ := hO o1 o0 (by omega)
      rw [he (64 + 10 * o1 + 0) (by omega) (by omega), he (64 + 10 * o1 + 3) (by omega) (by omega), he (64 + 10 * o1 + 4) (by omega) (by omega), he (64 + 10 * o1 + 6) (by omega) (by omega), he (64 + 10 * o1 + 7) (by omega) (by omega), he (64 + 10 * o1 + 8) (by omega) (by omega)]
      exact ⟨q1, q2, q3, fun z => ⟨freM_eq e0 e1 d0 hw (q4 z).1, (q4 z).2⟩⟩
  · rw [e8] at p1
    rw [he (464 + 4 * p + 0) (by omega) (by omega), e2]
    exact hN p p0 p1
  · rw [e7] at ge1
    obtain ⟨q1, q2⟩ := hE e ge ge1
    rw [he (544 + 3 * e + 1) (by omega) (by omega), he (544 + 3 * e + 0) (by omega) (by omega), e4, he (64 + 10 * M (544 + 3 * e + 1) + 4) (by omega) (by omega)]
    exact ⟨by omega, q2⟩
  · show dspM M u x y 7 = sumI (wtM (dspM M u x y)) (dspM M u x y 4 - 0).toNat 0
    rw [e7, e4, show (M 4 + 1 - 0).toNat = (M 4 - 0).toNat + 1 by omega, sumI_app, sumI_congr (f := wtM (dspM M u x y)) (g := wtM M) _ 0 (fun j j0 j1 => by unfold wtM; rw [he _ (by omega) (by omega)])]
    have q : wtM (dspM M u x y) (0 + ((M 4 - 0).toNat : Int)) = 0 := wtM_0 (by rw [show (0 : Int) + ((M 4 - 0).toNat : Int) = M 4 by omega]; exact k3)
    have h' : M 7 = sumI (wtM M) (M 4 - 0).toNat 0 := hC
    omega
  · intro c c0 c1
    rw [hw (784 + c) (by omega) (by omega)]
    exact hL.1 c c0 c1
  · rw [he 6 (by omega) (by omega), cntI_congr (p := fun c => decide (dspM M u x y (784 + c) = 1)) (q := fun c => decide (M (784 + c) = 1)) 144 0 (fun j j0 j1 => by rw [hw (784 + j) (by omega) (by omega)])]
    exact hL.2
/-- header but orders' and events' numbers, plans, walls, places -/
abbrev cy (z : Int) : Prop := (0 ≤ z ∧ z < 12 ∧ z ≠ 7 ∧ z ≠ 4) ∨ (464 ≤ z ∧ z < 544) ∨ 784 ≤ z
def cw (M M1 : Int → Int) : Prop := ∀ z, cy z → M1 z = M z
theorem cw.rf (M : Int → Int) : cw M M := fun _ _ => rfl
theorem cw.tr {a b c : Int → Int} (h1 : cw a b) (h2 : cw b c) : cw a c := fun z hz => (h2 z hz).trans (h1 z hz)
theorem cq.cw {a b : Int → Int} (h : cq a b) : cw a b := fun z hz => h z (by omega)
theorem snd1_Bq {M : Int → Int} (h : Bq M) {p : Int} (p0 : 0 ≤ p) (p1 : p < M 8) : Bq (snd1 p M) ∧ cw M (snd1 p M) := by
  unfold snd1
  split
  · rename_i hs
    have hN := h.2.2.2.1 p p0 p1
    have h4 := h.h4
    obtain ⟨a, b, -⟩ := dspM_Bq h (u := M (464 + 4 * p + 0)) (x := M (464 + 4 * p + 1)) (y := M (464 + 4 * p + 2)) hs.2 hN.1 (by omega)
    exact ⟨a, fun z hz => b z (by omega) (by omega)⟩
  · exact ⟨h, cw.rf M⟩
theorem sndM_it {M : Int → Int} : ∀ (n : Nat) (i : Int), 0 ≤ i → Bq M → i + n ≤ M 8 → Bq (itI snd1 n i M) ∧ cw M (itI snd1 n i M) := by
  intro n
  induction n generalizing M with
  | zero => intro i _ h _; exact ⟨h, cw.rf M⟩
  | succ n ih =>
    intro i i0 h hn
    obtain ⟨a, b⟩ := snd1_Bq h i0 (show i < M 8 by omega)
    obtain ⟨a2, b2⟩ := ih (i + 1) (by omega) a (by rw [b 8 (by omega)]; omega)
    exact ⟨a2, b.tr b2⟩
theorem sndM_Bq {M : Int → Int} (h : Bq M) : Bq (sndM M) ∧ cw M (sndM M) := by
  have h8 := h.1.2.2.2.2.1
  exact sndM_it _ 0 (Int.le_refl _) h (by omega)
theorem ps1_it {M : Int → Int} : ∀ (n : Nat) (i : Int), 0 ≤ i → Bq M → i + n ≤ M 4 → Bq (itI car1 n i M) ∧ cq M (itI car1 n i M) := by
  intro n
  induction n generalizing M with
  | zero => intro i _ h _; exact ⟨h, cq.rf M⟩
  | succ n ih =>
    intro i i0 h hn
    obtain ⟨a, b⟩ := car1_Bq h i0 (show i < M 4 by omega)
    obtain ⟨a2, b2⟩ := ih (i + 1) (by omega) a (by rw [b 4 (by omega)]; omega)
    exact ⟨a2, b.tr b2⟩
theorem ps2_it {M : Int → Int} : ∀ (n : Nat) (i : Int), 0 ≤ i → Bq M → i + n ≤ M 4 → Bq (itI los1 n i M) ∧ cq M (itI los1 n i M) := by
  intro n
  induction n generalizing M with
  | zero => intro i _ h _; exact ⟨h, cq.rf M⟩
  | succ n ih =>
    intro i i0 h hn
    obtain ⟨a, b⟩ := los1_Bq h i0 (show i < M 4 by omega)
    obtain ⟨a2, b2⟩ := ih (i + 1) (by omega) a (by rw [b 4 (by omega)]; omega)
    exact ⟨a2, b.tr b2⟩
theorem wlkA_Bq {M : Int → Int} (h : Bq M) {u d : Int} (g0 : 0 ≤ u) (g1 : u < M 2) (hf : freM M (M (12 + 4 * u + 0) + dX d) (M (12 + 4 * u + 1) + dY d)) : Bq (wlkA M u d) ∧ cq M (wlkA M u d) ∧ ∀ z, z < 12 ∨ 36 ≤ z → wlkA M u d z = M z := by
  obtain ⟨⟨d0, h2, h4, h5, h8, h9, hh, hp⟩, hU, hO, hN, hE, hC, hL⟩ := h
  have hA := hC.all h4
  have he : ∀ z, z ≠ 12 + 4 * u + 0 → z ≠ 12 + 4 * u + 1 → wlkA M u d z = M z := fun z a b => by
    unfold wlkA; rw [zupd_n b, zupd_n a]
  have k0 : wlkA M u d (12 + 4 * u + 0) = M (12 + 4 * u + 0) + dX d := by
    unfold wlkA; rw [zupd_n (by omega), zupd_s]
  have k1 : wlkA M u d (12 + 4 * u + 1) = M (12 + 4 * u + 1) + dY d := by
    unfold wlkA; rw [zupd_s]
  have e0 := he 0 (by omega) (by omega)
  have e1 := he 1 (by omega) (by omega)
  have e2 := he 2 (by omega) (by omega)
  have e4 := he 4 (by omega) (by omega)
  have e5 := he 5 (by omega) (by omega)
  have e7 := he 7 (by omega) (by omega)
  have e8 := he 8 (by omega) (by omega)
  have hw : ∀ c, 784 ≤ c → c < 928 → wlkA M u d c = M c := fun c c0 c1 => he c (by omega) (by omega)
  refine ⟨⟨⟨by unfold dimM; omega, by omega, by omega, by omega, by omega, by rw [he 9 (by omega) (by omega)]; exact h9, ?_, ?_⟩, fun v u0 u1 => ?_, fun o1 o0 o2 => ?_, fun p p0 p1 => ?_, fun e ge ge1 => ?_, ?_, ?_, ?_⟩, fun z hz => he z (by omega) (by omega), fun z hz => he z (by omega) (by omega)⟩
  · rw [he 10 (by omega) (by omega), he 11 (by omega) (by omega)]; exact freM_eq e0 e1 d0 hw hh
  · exact picsB_eq hp (he 3 (by omega) (by omega)) (fun z z0 z1 z2 => he z (by omega) (by omega))
  · rw [e2] at u1
    obtain ⟨q1, q2⟩ := hU v u0 u1
    rw [he (12 + 4 * v + 2) (by omega) (by omega)]
    by_cases e : v = u
    · subst e
      rw [k0, k1]
      exact ⟨freM_eq e0 e1 d0 hw hf, q2⟩
    · rw [he (12 + 4 * v + 0) (by omega) (by omega), he (12 + 4 * v + 1) (by omega) (by omega)]
      exact ⟨freM_eq e0 e1 d0 hw q1, q2⟩
  · rw [e4] at o2
    obtain ⟨q1, q2, q3, q4⟩ := hO o1 o0 o2
    unfold ordB
    rw [he (64 + 10 * o1 + 0) (by omega) (by omega), he (64 + 10 * o1 + 3) (by omega) (by omega), he (64 + 10 * o1 + 4) (by omega) (by omega), he (64 + 10 * o1 + 6) (by omega) (by omega), he (64 + 10 * o1 + 7) (by omega) (by omega), he (64 + 10 * o1 + 8) (by omega) (by omega), e2, e5]
    exact ⟨q1, q2, q3, fun z => ⟨freM_eq e0 e1 d0 hw (q4 z).1, (q4 z).2⟩⟩
  · rw [e8] at p1
    rw [he (464 + 4 * p + 0) (by omega) (by omega), e2]
    exact hN p p0 p1
  · rw [e7] at ge1
    obtain ⟨q1, q2⟩ := hE e ge ge1
    rw [he (544 + 3 * e + 1) (by omega) (by omega), he (544 + 3 * e + 0) (by omega) (by omega), e4, he (64 + 10 * M (544 + 3 * e + 1) + 4) (by omega) (by omega)]
    exact ⟨q1, q2⟩
  · show wlkA M u d 7 = sumI (wtM (wlkA M u d)) (wlkA M u d 4 - 0).toNat 0
    rw [e7, e4, sumI_congr (f := wtM (wlkA M u d)) (g := wtM M) _ 0 (fun j j0 j1 => by unfold wtM; rw [he _ (by omega) (by omega)])]
    exact hC
  · intro c c0 c1
    rw [hw (784 + c) (by omega) (by omega)]
    exact hL.1 c c0 c1
  · rw [he 6 (by omega) (by omega), cntI_congr (p := fun c => decide (wlkA M u d (784 + c) = 1)) (q := fun c => decide (M (784 + c) = 1)) 144 0 (fun j j0 j1 => by rw [hw (784 + j) (by omega) (by omega)])]
    exact hL.2
theorem wlkM_Bq {M : Int → Int} (h : Bq M) {u o : Int} (g0 : 0 ≤ u) (g1 : u < M 2) : Bq (wlkM M u o) ∧ cq M (wlkM M u o) ∧ ∀ z, z < 12 ∨ 36 ≤ z → wlkM M u o z = M z := by
  unfold wlkM
  split
  · exact ⟨h, cq.rf M, fun _ _ => rfl⟩
  · rename_i e
    exact wlkA_Bq h g0 g1 ((stpM_in M (layM M (M (64 + 10 * o + 1)) (M (64 + 10 * o + 2))) (M (12 + 4 * u + 0)) (M (12 + 4 * u + 1))).resolve_left e).2.2
theorem mvwM_Bq {M : Int → Int} (h : Bq M) {u o : Int} (g0 : 0 ≤ u) (g1 : u < M 2) : Bq (mvwM M u o) ∧ cq M (mvwM M u o) ∧ ∀ z, z < 12 ∨ 36 ≤ z → mvwM M u o z = M z := by
  unfold mvwM
  split
  · exact wlkM_Bq h g0 g1
  · exact ⟨h, cq.rf M, fun _ _ => rfl⟩
theorem movM_Bq {M : Int → Int} (h : Bq M) {u : Int} (g0 : 0 ≤ u) (g1 : u < M 2) : Bq (movM u M) ∧ cq M (movM u M) := by
  unfold movM
  rcases obyM_in M u h.h4 with e | ⟨b0, b1, b2, b3⟩
  · rw [if_pos e]; exact ⟨h, cq.rf M⟩
  · rw [if_neg (by omega)]
    obtain ⟨a, b, c⟩ := mvwM_Bq h (u := u) (o := obyM M u) g0 g1
    have h4 := h.h4
    have e4 : mvwM M u (obyM M u) 4 = M 4 := c 4 (by omega)
    have es : mvwM M u (obyM M u) (64 + 10 * obyM M u + 3) = 1 := by rw [c _ (by omega)]; exact b3
    unfold mvdM
    split
    · have hr := a.room b0 (by rw [e4]; exact b1)
      rw [wtM_1 es] at hr
      exact ⟨becM_Bq a b0 (by rw [e4]; exact b1) (by omega) (by rw [wtM_1 es]; rfl), b.tr (becM_cq (by omega) (by omega) b0 (by omega))⟩
    · exact ⟨a, b⟩
theorem ps3_it {M : Int → Int} : ∀ (n : Nat) (i : Int), 0 ≤ i → Bq M → i + n ≤ M 2 → Bq (itI movM n i M) ∧ cq M (itI movM n i M) := by
  intro n
  induction n generalizing M with
  | zero => intro i _ h _; exact ⟨h, cq.rf M⟩
  | succ n ih =>
    intro i i0 h hn
    obtain ⟨a, b⟩ := movM_Bq h i0 (show i < M 2 by omega)
    obtain ⟨a2, b2⟩ := ih (i + 1) (by omega) a (by rw [b 2 (by omega)]; omega)
    exact ⟨a2, b.tr b2⟩
theorem ps1_Bq {M : Int → Int} (h : Bq M) : Bq (ps1M M) ∧ cq M (ps1M M) := by
  have h4 := h.h4
  exact ps1_it _ 0 (Int.le_refl _) h (by omega)
theorem ps2_Bq {M : Int → Int} (h : Bq M) : Bq (ps2M M) ∧ cq M (ps2M M) := by
  have h4 := h.h4
  exact ps2_it _ 0 (Int.le_refl _) h (by omega)
theorem ps3_Bq {M : Int → Int} (h : Bq M) : Bq (ps3M M) ∧ cq M (ps3M M) := by
  have h2 := h.1.2.1
  exact ps3_it _ 0 (Int.le_refl _) h (by omega)
