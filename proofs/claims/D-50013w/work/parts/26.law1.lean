/-! THE BOARD's INVARIANT and its steps -/
set_option maxRecDepth 100000
def BH (M : Int → Int) : Prop := dimM M ∧ inb (M 2) 0 6 ∧ inb (M 4) 0 40 ∧ inb (M 5) 0 600 ∧ inb (M 8) 0 20 ∧ inb (M 9) 1 30 ∧ freM M (M 10) (M 11) ∧ picsB M
def BU (M : Int → Int) : Prop := ∀ u, 0 ≤ u → u < M 2 → freM M (M (12 + 4 * u + 0)) (M (12 + 4 * u + 1)) ∧ inb (M (12 + 4 * u + 2)) 1 3
abbrev ordB (M : Int → Int) (o : Int) : Prop := inb (M (64 + 10 * o + 0)) 0 (M 2 - 1) ∧ inb (M (64 + 10 * o + 3)) 0 6 ∧ inb (M (64 + 10 * o + 4)) 0 (M 5) ∧ (M (64 + 10 * o + 3) = 0 → freM M (M (64 + 10 * o + 7)) (M (64 + 10 * o + 8)) ∧ M (64 + 10 * o + 6) = -1)
def BO (M : Int → Int) : Prop := ∀ o, 0 ≤ o → o < M 4 → ordB M o
def BN (M : Int → Int) : Prop := ∀ p, 0 ≤ p → p < M 8 → inb (M (464 + 4 * p + 0)) 0 (M 2 - 1)
def BE (M : Int → Int) : Prop := ∀ e, 0 ≤ e → e < M 7 → inb (M (544 + 3 * e + 1)) 0 (M 4 - 1) ∧ M (64 + 10 * M (544 + 3 * e + 1) + 4) ≤ M (544 + 3 * e + 0)
def wtI (s : Int) : Int := if s = 0 then 0 else if s = 2 ∨ s = 6 then 2 else 1
def wtM (M : Int → Int) (o : Int) : Int := wtI (M (64 + 10 * o + 3))
def BC (M : Int → Int) : Prop := M 7 = sumI (wtM M) (M 4 - 0).toNat 0
def BL (M : Int → Int) : Prop := (∀ c, 0 ≤ c → c < 144 → M (784 + c) = 0 ∨ M (784 + c) = 1) ∧ M 6 = cntI (fun c => decide (M (784 + c) = 1)) 144 0
def Bq (M : Int → Int) : Prop := BH M ∧ BU M ∧ BO M ∧ BN M ∧ BE M ∧ BC M ∧ BL M
theorem wtI_in (s : Int) : 0 ≤ wtI s ∧ wtI s ≤ 2 := by unfold wtI; (repeat' split) <;> omega
theorem sumI_le {f : Int → Int} {b : Int} (hf : ∀ j, 0 ≤ f j ∧ f j ≤ b) : ∀ (n : Nat) (i : Int), 0 ≤ sumI f n i ∧ sumI f n i ≤ b * n
  | 0, _ => ⟨Int.le_refl _, by show (0 : Int) ≤ b * ((0 : Nat) : Int); simp⟩
  | n + 1, i => by
    have h := sumI_le hf n (i + 1)
    have h2 := hf i
    show 0 ≤ f i + sumI f n (i + 1) ∧ f i + sumI f n (i + 1) ≤ b * ((n + 1 : Nat) : Int)
    have e : b * ((n + 1 : Nat) : Int) = b * (n : Int) + b := by rw [Int.natCast_add, Int.mul_add]; simp
    rw [e]
    omega
/-- one term changes -/
theorem sumI_set {f g : Int → Int} {z : Int} : ∀ (n : Nat) (i : Int), i ≤ z → z < i + n → (∀ j, i ≤ j → j < i + n → j ≠ z → g j = f j) → sumI g n i = sumI f n i + (g z - f z)
  | 0, _, h1, h2, _ => by omega
  | n + 1, i, h1, h2, hj => by
    show g i + sumI g n (i + 1) = f i + sumI f n (i + 1) + (g z - f z)
    by_cases e : i = z
    · subst e
      rw [sumI_congr (f := g) (g := f) n (i + 1) (fun j g1 g2 => hj j (by omega) (by omega) (by omega))]
      omega
    · rw [hj i (by omega) (by omega) e, sumI_set n (i + 1) (by omega) (by omega) (fun j g1 g2 => hj j (by omega) (by omega))]
      omega
theorem sumI_app {f : Int → Int} : ∀ (n : Nat) (i : Int), sumI f (n + 1) i = sumI f n i + f (i + n)
  | 0, i => by show f i + 0 = 0 + f (i + ((0 : Nat) : Int)); simp
  | n + 1, i => by
    show f i + sumI f (n + 1) (i + 1) = f i + sumI f n (i + 1) + f (i + ((n + 1 : Nat) : Int))
    have e : i + 1 + (n : Int) = i + ((n + 1 : Nat) : Int) := by omega
    rw [sumI_app n (i + 1), e]
    omega
/-- events: room for those to come -/
theorem BC.room {M : Int → Int} (h : BC M) (h4 : inb (M 4) 0 40) {o : Int} (h0 : 0 ≤ o) (h1 : o < M 4) : 0 ≤ M 7 ∧ M 7 ≤ 80 - (2 - wtM M o) := by
  have e : sumI (fun j => if j = o then 2 else wtM M j) (M 4 - 0).toNat 0 = sumI (wtM M) (M 4 - 0).toNat 0 + ((if o = o then 2 else wtM M o) - wtM M o) := sumI_set (f := wtM M) (g := fun j => if j = o then 2 else wtM M j) (z := o) (M 4 - 0).toNat 0 h0 (by omega) (fun j _ _ hj => if_neg hj)
  rw [if_pos rfl] at e
  have b := sumI_le (f := fun j => if j = o then 2 else wtM M j) (b := 2) (fun j => by
    show 0 ≤ (if j = o then (2 : Int) else wtM M j) ∧ (if j = o then (2 : Int) else wtM M j) ≤ 2
    split
    · omega
    · exact wtI_in _) (M 4 - 0).toNat 0
  have b0 := sumI_le (f := wtM M) (b := 2) (fun j => wtI_in _) (M 4 - 0).toNat 0
  have h' : M 7 = sumI (wtM M) (M 4 - 0).toNat 0 := h
  have hw : 0 ≤ wtM M o ∧ wtM M o ≤ 2 := wtI_in _
  omega
theorem BC.all {M : Int → Int} (h : BC M) (h4 : inb (M 4) 0 40) : 0 ≤ M 7 ∧ M 7 ≤ 80 := by
  have b0 := sumI_le (f := wtM M) (b := 2) (fun j => wtI_in _) (M 4 - 0).toNat 0
  have h' : M 7 = sumI (wtM M) (M 4 - 0).toNat 0 := h
  omega
theorem freM_eq {M M1 : Int → Int} (h0 : M1 0 = M 0) (h1 : M1 1 = M 1) (hd : dimM M) (hw : ∀ c, 784 ≤ c → c < 928 → M1 c = M c) {x y : Int} (h : freM M x y) : freM M1 x y := by
  obtain ⟨⟨⟨a1, a2⟩, b1, b2⟩, hz⟩ := h
  refine ⟨⟨⟨a1, by omega⟩, b1, by omega⟩, ?_⟩
  rw [hw _ (by omega) (by omega)]
  exact hz
/-- the numbers that the invariant reads -/
abbrev rdz (z : Int) : Prop := (0 ≤ z ∧ z < 12) ∨ (12 ≤ z ∧ z < 36 ∧ z % 4 ≠ 3) ∨ (36 ≤ z ∧ z < 64 ∧ z % 7 ≠ 0) ∨ (64 ≤ z ∧ z < 464 ∧ (z % 10 = 4 ∨ z % 10 = 7 ∨ z % 10 = 8 ∨ z % 10 = 0 ∨ z % 10 = 1 ∨ z % 10 = 2)) ∨ (464 ≤ z ∧ z < 928)
theorem Bq_ext {M M1 : Int → Int} (h : Bq M) (he : ∀ z, rdz z → M1 z = M z) : Bq M1 := by
  obtain ⟨⟨d, h2, h4, h5, h8, h9, hh, hp⟩, hU, hO, hN, hE, hC, hL⟩ := h
  have hA := hC.all h4
  have e0 := he 0 (by omega)
  have e1 := he 1 (by omega)
  have e2 := he 2 (by omega)
  have e4 := he 4 (by omega)
  have e5 := he 5 (by omega)
  have e7 := he 7 (by omega)
  have e8 := he 8 (by omega)
  have hw : ∀ c, 784 ≤ c → c < 928 → M1 c = M c := fun c c0 c1 => he c (by omega)
  refine ⟨⟨by unfold dimM; omega, by omega, by omega, by omega, by omega, by rw [he 9 (by omega)]; exact h9, ?_, ?_⟩, fun u u0 u1 => ?_, fun o o0 o1 => ?_, fun p p0 p1 => ?_, fun e ge ge1 => ?_, ?_, ?_, ?_⟩
  · rw [he 10 (by omega), he 11 (by omega)]; exact freM_eq e0 e1 d hw hh
  · exact picsB_eq hp (he 3 (by omega)) (fun z z0 z1 z2 => he z (by have := z2 ((z - 42) / 7); omega))
  · rw [e2] at u1
    obtain ⟨q1, q2⟩ := hU u u0 u1
    rw [he (12 + 4 * u + 0) (by omega), he (12 + 4 * u + 1) (by omega), he (12 + 4 * u + 2) (by omega)]
    exact ⟨freM_eq e0 e1 d hw q1, q2⟩
  · rw [e4] at o1
    obtain ⟨q1, q2, q3, q4⟩ := hO o o0 o1
    unfold ordB
    rw [he (64 + 10 * o + 0) (by omega), he (64 + 10 * o + 3) (by omega), he (64 + 10 * o + 4) (by omega), he (64 + 10 * o + 7) (by omega), he (64 + 10 * o + 8) (by omega), he (64 + 10 * o + 6) (by omega), e2, e5]
    exact ⟨q1, q2, q3, fun z => ⟨freM_eq e0 e1 d hw (q4 z).1, (q4 z).2⟩⟩
  · rw [e8] at p1
    rw [he (464 + 4 * p + 0) (by omega), e2]
    exact hN p p0 p1
  · rw [e7] at ge1
    obtain ⟨q1, q2⟩ := hE e ge ge1
    rw [he (544 + 3 * e + 1) (by omega), he (544 + 3 * e + 0) (by omega), e4, he (64 + 10 * M (544 + 3 * e + 1) + 4) (by omega)]
    exact ⟨q1, q2⟩
  · show M1 7 = sumI (wtM M1) (M1 4 - 0).toNat 0
    rw [e7, e4, sumI_congr (f := wtM M1) (g := wtM M) _ 0 (fun j j0 j1 => by unfold wtM; rw [he _ (by omega)])]
    exact hC
  · intro c c0 c1
    rw [he (784 + c) (by omega)]
    exact hL.1 c c0 c1
  · rw [he 6 (by omega), cntI_congr (p := fun c => decide (M1 (784 + c) = 1)) (q := fun c => decide (M (784 + c) = 1)) 144 0 (fun j j0 j1 => by rw [he (784 + j) (by omega)])]
    exact hL.2
theorem becM_Bq {M : Int → Int} (h : Bq M) {o s : Int} (h0 : 0 ≤ o) (h1 : o < M 4) (hs : inb s 1 6) (hw : wtI s = wtM M o + 1) : Bq (becM M o s) := by
  obtain ⟨⟨d, h2, h4, h5, h8, h9, hh, hp⟩, hU, hO, hN, hE, hC, hL⟩ := h
  have hA := hC.room h4 h0 h1
  have hw2 := wtI_in s
  have h7 : M 7 < 80 := by omega
  have k7 := becM_7 (s := s) h0 hA.1
  have he : ∀ z, z ≠ 7 → (z < 544 ∨ 784 ≤ z) → z ≠ 64 + 10 * o + 3 → z ≠ 64 + 10 * o + 6 → becM M o s z = M z := fun z a b c e => becM_n hA.1 a b h7 c e
  have k3 : becM M o s (64 + 10 * o + 3) = s := by unfold becM; rw [zupd_n (by omega), zupd_s]
  have ke : ∀ e f, 0 ≤ e → e < M 7 → 0 ≤ f → f < 3 → becM M o s (544 + 3 * e + f) = M (544 + 3 * e + f) := fun e f a b c c2 => by
    unfold becM; rw [zupd_n (by omega), zupd_n (by omega), zupd_n (by omega), zupd_n (by omega), zupd_n (by omega), zupd_n (by omega)]
  have ke0 : becM M o s (544 + 3 * M 7 + 0) = M 5 := by
    unfold becM; rw [zupd_n (by omega), zupd_n (by omega), zupd_n (by omega), zupd_n (by omega), zupd_n (by omega)]
    rw [show 544 + 3 * M 7 + 0 = 544 + 3 * M 7 by omega, zupd_s]
  have ke1 : becM M o s (544 + 3 * M 7 + 1) = o := by
    unfold becM; rw [zupd_n (by omega), zupd_n (by omega), zupd_n (by omega), zupd_n (by omega), zupd_s]
  have e0 := he 0 (by omega) (by omega) (by omega) (by omega)
  have e1 := he 1 (by omega) (by omega) (by omega) (by omega)
  have e2 := he 2 (by omega) (by omega) (by omega) (by omega)
  have e4 := he 4 (by omega) (by omega) (by omega) (by omega)
  have e5 := he 5 (by omega) (by omega) (by omega) (by omega)
  have e8 := he 8 (by omega) (by omega) (by omega) (by omega)
  have hwl : ∀ c, 784 ≤ c → c < 928 → becM M o s c = M c := fun c c0 c1 => he c (by omega) (by omega) (by omega) (by omega)
  have ho := hO o h0 h1
  refine ⟨⟨by unfold dimM; omega, by omega, by omega, by omega, by omega, by rw [he 9 (by omega) (by omega) (by omega) (by omega)]; exact h9, ?_, ?_⟩, fun u u0 u1 => ?_, fun o1 o0 o2 => ?_, fun p p0 p1 => ?_, fun e ge ge1 => ?_, ?_, ?_, ?_⟩
  · rw [he 10 (by omega) (by omega) (by omega) (by omega), he 11 (by omega) (by omega) (by omega) (by omega)]; exact freM_eq e0 e1 d hwl hh
  · exact picsB_eq hp (he 3 (by omega) (by omega) (by omega) (by omega)) (fun z z0 z1 z2 => he z (by omega) (by omega) (by omega) (by omega))
  · rw [e2] at u1
    obtain ⟨q1, q2⟩ := hU u u0 u1
    rw [he (12 + 4 * u + 0) (by omega) (by omega) (by omega) (by omega), he (12 + 4 * u + 1) (by omega) (by omega) (by omega) (by omega), he (12 + 4 * u + 2) (by omega) (by omega) (by omega) (by omega)]
    exact ⟨freM_eq e0 e1 d hwl q1, q2⟩
  · rw [e4] at o2
    obtain ⟨q1, q2, q3, q4⟩ := hO o1 o0 o2
    unfold ordB
    rw [he (64 + 10 * o1 + 0) (by omega) (by omega) (by omega) (by omega), he (64 + 10 * o1 + 4) (by omega) (by omega) (by omega) (by omega), he (64 + 10 * o1 + 7) (by omega) (by omega) (by omega) (by omega), he (64 + 10 * o1 + 8) (by omega) (by omega) (by omega) (by omega), e2, e5]
    by_cases e : o1 = o
    · subst e
      rw [k3]
      exact ⟨q1, by omega, q3, fun z => by omega⟩
    · rw [he (64 + 10 * o1 + 3) (by omega) (by omega) (by omega) (by omega), he (64 + 10 * o1 + 6) (by omega) (by omega) (by omega) (by omega)]
      exact ⟨q1, q2, q3, fun z => ⟨freM_eq e0 e1 d hwl (q4 z).1, (q4 z).2⟩⟩
  · rw [e8] at p1
    rw [he (464 + 4 * p + 0) (by omega) (by omega) (by omega) (by omega), e2]
    exact hN p p0 p1
  · rw [k7] at ge1
    by_cases ee : e = M 7
    · subst ee
      rw [ke0, ke1, e4, he (64 + 10 * o + 4) (by omega) (by omega) (by omega) (by omega)]
      exact ⟨by omega, ho.2.2.1.2⟩
    · obtain ⟨q1, q2⟩ := hE e ge (by omega)
      rw [ke e 1 ge (by omega) (by omega) (by omega), ke e 0 ge (by omega) (by omega) (by omega), e4, he (64 + 10 * M (544 + 3 * e + 1) + 4) (by omega) (by omega) (by omega) (by omega)]
      exact ⟨q1, q2⟩
  · show becM M o s 7 = sumI (wtM (becM M o s)) (becM M o s 4 - 0).toNat 0
    rw [k7, e4, sumI_set (f := wtM M) (g := wtM (becM M o s)) (z := o) _ 0 h0 (by omega) (fun j j0 j1 hj => by unfold wtM; rw [he _ (by omega) (by omega) (by omega) (by omega)])]
    have q : wtM (becM M o s) o = wtI s := by unfold wtM; rw [k3]
    have h' : M 7 = sumI (wtM M) (M 4 - 0).toNat 0 := hC
    omega
  · intro c c0 c1
    rw [hwl (784 + c) (by omega) (by omega)]
    exact hL.1 c c0 c1
  · rw [he 6 (by omega) (by omega) (by omega) (by omega), cntI_congr (p := fun c => decide (becM M o s (784 + c) = 1)) (q := fun c => decide (M (784 + c) = 1)) 144 0 (fun j j0 j1 => by rw [hwl (784 + j) (by omega) (by omega)])]
    exact hL.2
