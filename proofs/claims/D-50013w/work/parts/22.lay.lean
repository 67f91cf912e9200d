/-! DISTANCES: the search in rows, as the reference does it -/
set_option maxRecDepth 100000
abbrev BS : Type := (Int → Int) × (Int → Int) × Int
abbrev nbI (c d : Int) : Int := 12 * (c / 12 + dY d) + (c % 12 + dX d)
def sprD (M : Int → Int) (c d : Int) (s : BS) : BS := if freM M (c % 12 + dX d) (c / 12 + dY d) ∧ s.1 (nbI c d) = 1000 then (zupd s.1 (nbI c d) (s.1 c + 1), zupd s.2.1 s.2.2 (nbI c d), s.2.2 + 1) else s
def sprM (M : Int → Int) (c : Int) (s : BS) : BS := itI (sprD M c) ((4 : Int) - 0).toNat 0 s
def bfsM (M : Int → Int) : Nat → Int → BS → BS
  | 0, _, s => s
  | f + 1, k, s => if k < s.2.2 then bfsM M f (k + 1) (sprM M (s.2.1 k) s) else s
def filM (F : Int → Int) : Int → Int := fun z => if 0 ≤ z ∧ z < 144 then 1000 else F z
def layS (M : Int → Int) (x y : Int) (F Qu : Int → Int) : BS := if freM M x y then bfsM M 145 0 (zupd (filM F) (12 * y + x) 0, zupd Qu 0 (12 * y + x), 1) else (filM F, Qu, 0)
theorem dX_R (d : Int) : -1 ≤ dX d ∧ dX d ≤ 1 := by unfold dX; (repeat' split) <;> omega
theorem dY_R (d : Int) : -1 ≤ dY d ∧ dY d ≤ 1 := by unfold dY; (repeat' split) <;> omega
theorem cntI_set {p q : Int → Bool} {z : Int} : ∀ (n : Nat) (i : Int), i ≤ z → z < i + n → (∀ j, j ≠ z → p j = q j) → p z = false → q z = true → cntI q n i = cntI p n i + 1
  | 0, _, h1, h2, _, _, _ => by omega
  | n + 1, i, h1, h2, hj, hp, hq => by
    show (if q i = true then (1 : Int) else 0) + cntI q n (i + 1) = (if p i = true then (1 : Int) else 0) + cntI p n (i + 1) + 1
    by_cases e : i = z
    · subst e
      rw [hp, hq]
      have e2 := cntI_congr (p := q) (q := p) n (i + 1) (fun j g1 _ => (hj j (by omega)).symm)
      rw [e2]
      simp
      omega
    · rw [hj i e, cntI_set n (i + 1) (by omega) (by omega) hj hp hq]
      omega
/-- the search's state is in order: the queue holds n different cells, all that are reached, by their distances' bounds -/
def BW (s : BS) : Prop := 0 ≤ s.2.2 ∧ s.2.2 = cntI (fun z => decide (s.1 z ≠ 1000)) 144 0 ∧ (∀ j, 0 ≤ j → j < s.2.2 → 0 ≤ s.2.1 j ∧ s.2.1 j < 144 ∧ 0 ≤ s.1 (s.2.1 j) ∧ s.1 (s.2.1 j) ≤ j) ∧ ∀ z, 0 ≤ z → z < 144 → 0 ≤ s.1 z ∧ s.1 z ≤ 1000
theorem BW.n {s : BS} (h : BW s) : s.2.2 ≤ 144 := by
  have := cntI_le (fun z => decide (s.1 z ≠ 1000)) 144 0
  have e := h.2.1
  omega
theorem nb_in {M : Int → Int} (hd : dimM M) {c d : Int} (h0 : 0 ≤ c) (h1 : c < 144) (hf : freM M (c % 12 + dX d) (c / 12 + dY d)) : 0 ≤ nbI c d ∧ nbI c d < 144 := by
  obtain ⟨⟨⟨a1, a2⟩, b1, b2⟩, -⟩ := hf
  obtain ⟨d1, d2, d3, d4⟩ := hd
  unfold nbI
  omega
theorem BW.lt {s : BS} (h : BW s) {z : Int} (h0 : 0 ≤ z) (h1 : z < 144) (hz : s.1 z = 1000) : s.2.2 < 144 := by
  have e := h.2.1
  have e2 := cntI_set (p := fun z => decide (s.1 z ≠ 1000)) (q := fun j => decide (zupd s.1 z 0 j ≠ 1000)) (z := z) 144 0 h0 (by omega) (fun j hj => by rw [zupd_n hj]) (by simp [hz]) (by simp [zupd_s])
  have e3 := cntI_le (fun j => decide (zupd s.1 z 0 j ≠ 1000)) 144 0
  omega
theorem BW_D {M : Int → Int} (hd : dimM M) {s : BS} (h : BW s) {c d : Int} (h0 : 0 ≤ c) (h1 : c < 144) (hc : 0 ≤ s.1 c) (hc2 : s.1 c + 1 ≤ s.2.2) : BW (sprD M c d s) ∧ (sprD M c d s).1 c = s.1 c ∧ s.2.2 ≤ (sprD M c d s).2.2 ∧ ∀ j, j < s.2.2 → (sprD M c d s).2.1 j = s.2.1 j := by
  unfold sprD
  split
  · rename_i hf
    obtain ⟨hf, hz⟩ := hf
    obtain ⟨n0, n1⟩ := nb_in hd h0 h1 hf
    have hlt := h.lt n0 n1 hz
    have hcn : c ≠ nbI c d := fun e => by rw [← e] at hz; omega
    obtain ⟨a1, a2, a3, a4⟩ := h
    refine ⟨⟨by show 0 ≤ s.2.2 + 1; omega, ?_, fun j j0 j1 => ?_, fun z z0 z1 => ?_⟩, zupd_n hcn, by show s.2.2 ≤ s.2.2 + 1; omega, fun j hj => zupd_n (by omega)⟩
    · show s.2.2 + 1 = cntI (fun z => decide (zupd s.1 (nbI c d) (s.1 c + 1) z ≠ 1000)) 144 0
      rw [cntI_set (p := fun z => decide (s.1 z ≠ 1000)) (q := fun z => decide (zupd s.1 (nbI c d) (s.1 c + 1) z ≠ 1000)) (z := nbI c d) 144 0 n0 (by omega) (fun j hj => by rw [zupd_n hj]) (by simp [hz]) (by rw [zupd_s]; simp; omega)]
      omega
    · show 0 ≤ zupd s.2.1 s.2.2 (nbI c d) j ∧ _
      have j1 : j < s.2.2 + 1 := j1
      by_cases e : j = s.2.2
      · subst e
        show 0 ≤ zupd s.2.1 s.2.2 (nbI c d) s.2.2 ∧ zupd s.2.1 s.2.2 (nbI c d) s.2.2 < 144 ∧ 0 ≤ zupd s.1 (nbI c d) (s.1 c + 1) (zupd s.2.1 s.2.2 (nbI c d) s.2.2) ∧ zupd s.1 (nbI c d) (s.1 c + 1) (zupd s.2.1 s.2.2 (nbI c d) s.2.2) ≤ s.2.2
        rw [zupd_s, zupd_s]
        omega
      · have ej := a3 j j0 (by omega)
        have hne : s.2.1 j ≠ nbI c d := fun e2 => by rw [e2, hz] at ej; omega
        show 0 ≤ zupd s.2.1 s.2.2 (nbI c d) j ∧ zupd s.2.1 s.2.2 (nbI c d) j < 144 ∧ 0 ≤ zupd s.1 (nbI c d) (s.1 c + 1) (zupd s.2.1 s.2.2 (nbI c d) j) ∧ zupd s.1 (nbI c d) (s.1 c + 1) (zupd s.2.1 s.2.2 (nbI c d) j) ≤ j
        rw [zupd_n e, zupd_n hne]
        exact ej
    · show 0 ≤ zupd s.1 (nbI c d) (s.1 c + 1) z ∧ zupd s.1 (nbI c d) (s.1 c + 1) z ≤ 1000
      by_cases e : z = nbI c d
      · subst e; rw [zupd_s]; omega
      · rw [zupd_n e]; exact a4 z z0 z1
  · exact ⟨h, rfl, Int.le_refl _, fun _ _ => rfl⟩
theorem BW_it {M : Int → Int} (hd : dimM M) {c : Int} (h0 : 0 ≤ c) (h1 : c < 144) : ∀ (n : Nat) (i : Int) (s : BS), BW s → 0 ≤ s.1 c → s.1 c + 1 ≤ s.2.2 → BW (itI (sprD M c) n i s) ∧ (itI (sprD M c) n i s).1 c = s.1 c ∧ s.2.2 ≤ (itI (sprD M c) n i s).2.2 ∧ ∀ j, j < s.2.2 → (itI (sprD M c) n i s).2.1 j = s.2.1 j
  | 0, _, s, h, _, _ => ⟨h, rfl, Int.le_refl _, fun _ _ => rfl⟩
  | n + 1, i, s, h, g0, g1 => by
    obtain ⟨b1, b2, b3, b4⟩ := BW_D (d := i) hd h h0 h1 g0 g1
    obtain ⟨q1, q2, q3, q4⟩ := BW_it hd h0 h1 n (i + 1) (sprD M c i s) b1 (by rw [b2]; exact g0) (by rw [b2]; omega)
    exact ⟨q1, q2.trans b2, Int.le_trans b3 q3, fun j hj => (q4 j (by omega)).trans (b4 j hj)⟩
theorem bfsM_e {M : Int → Int} {f : Nat} {k : Int} {s : BS} (h : s.2.2 ≤ k) : bfsM M f k s = s := by
  cases f with
  | zero => rfl
  | succ f => unfold bfsM; rw [if_neg (by omega)]
theorem bfsM_s {M : Int → Int} {f : Nat} {k : Int} {s : BS} (h : k < s.2.2) : bfsM M (f + 1) k s = bfsM M f (k + 1) (sprM M (s.2.1 k) s) := by
  show (if k < s.2.2 then _ else _) = _
  rw [if_pos h]
theorem filM_c (F : Int → Int) {z : Int} (h0 : 0 ≤ z) (h1 : z < 144) : filM F z = 1000 := if_pos ⟨h0, h1⟩
theorem filM_cnt (F : Int → Int) : cntI (fun z => decide (filM F z ≠ 1000)) 144 0 = 0 := by
  rw [cntI_congr (q := fun _ => false) 144 0 (fun j h0 h1 => by simp [filM_c F h0 (by omega)])]
  have key : ∀ (n : Nat) (i : Int), cntI (fun _ => false) n i = 0 := by
    intro n
    induction n with
    | zero => intro i; rfl
    | succ n ih => intro i; show (if false = true then (1 : Int) else 0) + _ = 0; rw [ih]; rfl
  exact key _ _
theorem BW_0 (F Qu : Int → Int) {c : Int} (h0 : 0 ≤ c) (h1 : c < 144) : BW (zupd (filM F) c 0, zupd Qu 0 c, 1) := by
  refine ⟨show (0 : Int) ≤ 1 by decide, ?_, fun j j0 j1 => ?_, fun z z0 z1 => ?_⟩
  · show (1 : Int) = cntI (fun z => decide (zupd (filM F) c 0 z ≠ 1000)) 144 0
    rw [cntI_set (p := fun z => decide (filM F z ≠ 1000)) (z := c) 144 0 h0 (by omega) (fun j hj => by rw [zupd_n hj]) (by simp [filM_c F h0 h1]) (by simp [zupd_s]), filM_cnt]
    rfl
  · have j1 : j < 1 := j1
    have e : j = 0 := by omega
    subst e
    show 0 ≤ zupd Qu 0 c 0 ∧ zupd Qu 0 c 0 < 144 ∧ 0 ≤ zupd (filM F) c 0 (zupd Qu 0 c 0) ∧ zupd (filM F) c 0 (zupd Qu 0 c 0) ≤ 0
    rw [zupd_s, zupd_s]
    omega
  · show 0 ≤ zupd (filM F) c 0 z ∧ zupd (filM F) c 0 z ≤ 1000
    by_cases e : z = c
    · subst e; rw [zupd_s]; omega
    · rw [zupd_n e, filM_c F z0 z1]; omega
