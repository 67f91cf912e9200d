/-! DISTANCES don't depend on what was there; the turn's end -/
set_option maxRecDepth 100000
theorem stpM_congr {M F F2 : Int → Int} (hd : dimM M) {x y : Int} (hx : inb x 0 11) (hy : inb y 0 11) (hF : ∀ z, 0 ≤ z → z < 144 → F z = F2 z) : stpM M F x y = stpM M F2 x y := by
  refine fstI_congr _ 0 (fun d d0 d1 => ?_)
  show decide _ = decide _
  by_cases hf : freM M (x + dX d) (y + dY d)
  · have h1 := hf
    obtain ⟨⟨⟨a1, a2⟩, b1, b2⟩, -⟩ := h1
    rw [hF (12 * (y + dY d) + (x + dX d)) (by omega) (by omega), hF (12 * y + x) (by omega) (by omega)]
  · rw [decide_eq_false (fun e => hf e.1), decide_eq_false (fun e => hf e.1)]
def BR (s t : BS) : Prop := s.2.2 = t.2.2 ∧ (∀ z, 0 ≤ z → z < 144 → s.1 z = t.1 z) ∧ ∀ j, 0 ≤ j → j < s.2.2 → s.2.1 j = t.2.1 j
theorem BR_D {M : Int → Int} (hd : dimM M) {s t : BS} (h : BR s t) {c d : Int} (h0 : 0 ≤ c) (h1 : c < 144) (hn : 0 ≤ s.2.2) : BR (sprD M c d s) (sprD M c d t) := by
  obtain ⟨e1, e2, e3⟩ := h
  by_cases hf : freM M (c % 12 + dX d) (c / 12 + dY d)
  · obtain ⟨n0, n1⟩ := nb_in hd h0 h1 hf
    unfold sprD
    rw [← e2 (nbI c d) n0 n1]
    by_cases hz : s.1 (nbI c d) = 1000
    · rw [if_pos ⟨hf, hz⟩, if_pos ⟨hf, hz⟩]
      refine ⟨by show s.2.2 + 1 = t.2.2 + 1; omega, fun z z0 z1 => ?_, fun j j0 j1 => ?_⟩
      · show zupd s.1 (nbI c d) (s.1 c + 1) z = zupd t.1 (nbI c d) (t.1 c + 1) z
        by_cases e : z = nbI c d
        · subst e; rw [zupd_s, zupd_s, e2 c h0 h1]
        · rw [zupd_n e, zupd_n e]; exact e2 z z0 z1
      · have j1 : j < s.2.2 + 1 := j1
        show zupd s.2.1 s.2.2 (nbI c d) j = zupd t.2.1 t.2.2 (nbI c d) j
        rw [← e1]
        by_cases e : j = s.2.2
        · subst e; rw [zupd_s, zupd_s]
        · rw [zupd_n e, zupd_n e]; exact e3 j j0 (by omega)
    · rw [if_neg (fun e => hz e.2), if_neg (fun e => hz e.2)]
      exact ⟨e1, e2, e3⟩
  · unfold sprD
    rw [if_neg (fun e => hf e.1), if_neg (fun e => hf e.1)]
    exact ⟨e1, e2, e3⟩
theorem BR_it {M : Int → Int} (hd : dimM M) {c : Int} (h0 : 0 ≤ c) (h1 : c < 144) : ∀ (n : Nat) (i : Int) (s t : BS), BR s t → BW s → 0 ≤ s.1 c → s.1 c + 1 ≤ s.2.2 → BR (itI (sprD M c) n i s) (itI (sprD M c) n i t)
  | 0, _, _, _, h, _, _, _ => h
  | n + 1, i, s, t, h, hw, g0, g1 => by
    obtain ⟨b1, b2, b3, b4⟩ := BW_D (d := i) hd hw h0 h1 g0 g1
    exact BR_it hd h0 h1 n (i + 1) _ _ (BR_D hd h h0 h1 hw.1) b1 (by rw [b2]; exact g0) (by rw [b2]; omega)
theorem BR_bfs {M : Int → Int} (hd : dimM M) : ∀ (f : Nat) (k : Int) (s t : BS), 0 ≤ k → BR s t → BW s → BR (bfsM M f k s) (bfsM M f k t) ∧ BW (bfsM M f k s)
  | 0, _, _, _, _, h, hw => ⟨h, hw⟩
  | f + 1, k, s, t, k0, h, hw => by
    show BR (if k < s.2.2 then _ else _) (if k < t.2.2 then _ else _) ∧ BW (if k < s.2.2 then _ else _)
    rw [← h.1]
    split
    · rename_i hk
      obtain ⟨q0, q1, q2, q3⟩ := hw.2.2.1 k k0 hk
      rw [← h.2.2 k k0 hk]
      exact BR_bfs hd f (k + 1) _ _ (by omega) (BR_it hd q0 q1 _ 0 s t h hw q2 (by omega)) (BW_it hd q0 q1 _ 0 s hw q2 (by omega)).1
    · exact ⟨h, hw⟩
theorem lay_agree {M : Int → Int} (hd : dimM M) (x y : Int) (F Qu : Int → Int) : ∀ z, 0 ≤ z → z < 144 → (layS M x y F Qu).1 z = layM M x y z := by
  intro z z0 z1
  unfold layM layS
  split
  · rename_i hf
    obtain ⟨⟨⟨a1, a2⟩, b1, b2⟩, -⟩ := hf
    have c0 : 0 ≤ 12 * y + x := by omega
    have c1 : 12 * y + x < 144 := by omega
    refine (BR_bfs hd 145 0 _ _ (Int.le_refl _) ?_ (BW_0 F Qu c0 c1)).1.2.1 z z0 z1
    refine ⟨rfl, fun v v0 v1 => ?_, fun j j0 j1 => ?_⟩
    · show zupd (filM F) (12 * y + x) 0 v = zupd (filM fun _ => 1000) (12 * y + x) 0 v
      by_cases e : v = 12 * y + x
      · subst e; rw [zupd_s, zupd_s]
      · rw [zupd_n e, zupd_n e, filM_c F v0 v1, filM_c _ v0 v1]
    · have j1 : j < 1 := j1
      show zupd Qu 0 (12 * y + x) j = zupd (fun _ => 0) 0 (12 * y + x) j
      rw [show j = 0 by omega, zupd_s, zupd_s]
  · show filM F z = filM (fun _ => 1000) z
    rw [filM_c F z0 z1, filM_c _ z0 z1]
theorem ridM_congr {M F F2 : Int → Int} (hd : dimM M) {o : Int} (hat : freM M (M (64 + 10 * o + 7)) (M (64 + 10 * o + 8))) (hF : ∀ z, 0 ≤ z → z < 144 → F z = F2 z) : rdD M F o = rdD M F2 o ∧ ridM M F o = ridM M F2 o := by
  obtain ⟨⟨⟨a1, a2⟩, b1, b2⟩, -⟩ := hat
  have e : rdD M F o = rdD M F2 o := stpM_congr hd (by omega) (by omega) hF
  refine ⟨e, ?_⟩
  unfold ridM
  rw [e]
theorem ri2M_congr {M F F2 : Int → Int} (h : Bq M) {o : Int} (h0 : 0 ≤ o) (h1 : o < M 4) (hs : M (64 + 10 * o + 3) = 0) (hF : ∀ z, 0 ≤ z → z < 144 → F z = F2 z) : ri2M M F o = ri2M M F2 o := by
  obtain ⟨e1, e2⟩ := ridM_congr h.hd ((h.ord h0 h1).2.2.2 hs).1 hF
  unfold ri2M
  by_cases hb : ridB M F o
  · have hb2 : ridB M F2 o := ⟨e1 ▸ hb.1, e2 ▸ hb.2⟩
    rw [if_pos hb, if_pos hb2, ← e2]
    obtain ⟨a, b, c⟩ := ridM_Bq (F := F) h h0 h1 hs
    have e4 : ridM M F o 4 = M 4 := b 4 (by omega)
    exact (ridM_congr a.hd ((a.ord h0 (by rw [e4]; exact h1)).2.2.2 hb.2).1 hF).2
  · have hb2 : ¬ ridB M F2 o := fun e => hb ⟨e1 ▸ e.1, e2 ▸ e.2⟩
    rw [if_neg hb, if_neg hb2]
    exact e2
/-- the turn goes on -/
theorem trn_Bq {M : Int → Int} (h : Bq M) (h5 : M 5 ≤ 599) : Bq (zupd M 5 (M 5 + 1)) ∧ ∀ z, z ≠ 5 → zupd M 5 (M 5 + 1) z = M z := by
  obtain ⟨⟨d0, h2, h4, h5', h8, h9, hh, hp⟩, hU, hO, hN, hE, hC, hL⟩ := h
  have hA := hC.all h4
  have he : ∀ z, z ≠ 5 → zupd M 5 (M 5 + 1) z = M z := fun z a => zupd_n a
  have e5 : zupd M 5 (M 5 + 1) 5 = M 5 + 1 := zupd_s _ _ _
  have e0 := he 0 (by omega)
  have e1 := he 1 (by omega)
  have e2 := he 2 (by omega)
  have e4 := he 4 (by omega)
  have e7 := he 7 (by omega)
  have e8 := he 8 (by omega)
  have hw : ∀ c, 784 ≤ c → c < 928 → zupd M 5 (M 5 + 1) c = M c := fun c c0 c1 => he c (by omega)
  refine ⟨⟨⟨by unfold dimM; omega, by omega, by omega, by omega, by omega, by rw [he 9 (by omega)]; exact h9, ?_, ?_⟩, fun v u0 u1 => ?_, fun o1 o0 o2 => ?_, fun p p0 p1 => ?_, fun e ge ge1 => ?_, ?_, ?_, ?_⟩, he⟩
  · rw [he 10 (by omega), he 11 (by omega)]; exact freM_eq e0 e1 d0 hw hh
  · exact picsB_eq hp (he 3 (by omega)) (fun z z0 z1 z2 => he z (by omega))
  · rw [e2] at u1
    obtain ⟨q1, q2⟩ := hU v u0 u1
    rw [he (12 + 4 * v + 2) (by omega), he (12 + 4 * v + 0) (by omega), he (12 + 4 * v + 1) (by omega)]
    exact ⟨freM_eq e0 e1 d0 hw q1, q2⟩
  · rw [e4] at o2
    obtain ⟨q1, q2, q3, q4⟩ := hO o1 o0 o2
    unfold ordB
    rw [he (64 + 10 * o1 + 0) (by omega), he (64 + 10 * o1 + 3) (by omega), he (64 + 10 * o1 + 4) (by omega), he (64 + 10 * o1 + 6) (by omega), he (64 + 10 * o1 + 7) (by omega), he (64 + 10 * o1 + 8) (by omega), e2, e5]
    exact ⟨q1, q2, by omega, fun z => ⟨freM_eq e0 e1 d0 hw (q4 z).1, (q4 z).2⟩⟩
  · rw [e8] at p1
    rw [he (464 + 4 * p + 0) (by omega), e2]
    exact hN p p0 p1
  · rw [e7] at ge1
    obtain ⟨q1, q2⟩ := hE e ge ge1
    rw [he (544 + 3 * e + 1) (by omega), he (544 + 3 * e + 0) (by omega), e4, he (64 + 10 * M (544 + 3 * e + 1) + 4) (by omega)]
    exact ⟨q1, q2⟩
  · show zupd M 5 (M 5 + 1) 7 = sumI (wtM (zupd M 5 (M 5 + 1))) (zupd M 5 (M 5 + 1) 4 - 0).toNat 0
    rw [e7, e4, sumI_congr (f := wtM (zupd M 5 (M 5 + 1))) (g := wtM M) _ 0 (fun j j0 j1 => by unfold wtM; rw [he _ (by omega)])]
    exact hC
  · intro c c0 c1
    rw [hw (784 + c) (by omega) (by omega)]
    exact hL.1 c c0 c1
  · rw [he 6 (by omega), cntI_congr (p := fun c => decide (zupd M 5 (M 5 + 1) (784 + c) = 1)) (q := fun c => decide (M (784 + c) = 1)) 144 0 (fun j j0 j1 => by rw [hw (784 + j) (by omega) (by omega)])]
    exact hL.2
theorem rem_it {M : Int → Int} : ∀ (n : Nat) (i : Int), 0 ≤ i → Bq M → itI rem1 n i M 5 = M 5 ∧ Bq (itI rem1 n i M) ∧ ∀ z, z < 928 → itI rem1 n i M z = M z := by
  intro n
  induction n generalizing M with
  | zero => intro i _ h; exact ⟨rfl, h, fun _ _ => rfl⟩
  | succ n ih =>
    intro i i0 h
    have h5 := h.1.2.2.2.1
    have e : ∀ z, z < 928 → rem1 i M z = M z := fun z hz => zupd_n (by omega)
    obtain ⟨a, b, c⟩ := ih (i + 1) (by omega) (Bq_ext h (fun z hz => e z (by omega)))
    exact ⟨a.trans (e 5 (by omega)), b, fun z hz => (c z hz).trans (e z hz)⟩
theorem remM_Bq {M : Int → Int} (h : Bq M) : Bq (remM M) ∧ ∀ z, z < 928 → remM M z = M z := by
  unfold remM
  split
  · exact (rem_it _ 0 (Int.le_refl _) h).2
  · exact ⟨h, fun _ _ => rfl⟩
theorem pasM_Bq {M : Int → Int} (h : Bq M) (h5 : M 5 ≤ 599) : Bq (pasM M) ∧ pasM M 5 = M 5 + 1 ∧ ∀ z, (0 ≤ z ∧ z < 12 ∧ z ≠ 7 ∧ z ≠ 4 ∧ z ≠ 5) ∨ (464 ≤ z ∧ z < 544) ∨ (784 ≤ z ∧ z < 928) → pasM M z = M z := by
  obtain ⟨a1, b1⟩ := sndM_Bq h
  obtain ⟨a2, b2⟩ := ps1_Bq a1
  obtain ⟨a3, b3⟩ := ps2_Bq a2
  obtain ⟨a4, b4⟩ := ps3_Bq a3
  have hc := ((b1.tr b2.cw).tr b3.cw).tr b4.cw
  have e5 := hc 5 (by omega)
  obtain ⟨a5, b5⟩ := trn_Bq a4 (by rw [e5]; exact h5)
  obtain ⟨a6, b6⟩ := remM_Bq a5
  refine ⟨a6, ?_, fun z hz => ?_⟩
  · unfold pasM
    rw [b6 5 (by omega), zupd_s, e5]
  · unfold pasM
    rw [b6 z (by omega), b5 z (by omega)]
    exact hc z (by omega)
