/-! THE BOARD's INVARIANT through the steps -/
set_option maxRecDepth 100000
/-- header but the events' number, orders' fixed numbers, plans, walls, places -/
abbrev cz (z : Int) : Prop := (0 ≤ z ∧ z < 12 ∧ z ≠ 7) ∨ (64 ≤ z ∧ z < 464 ∧ (z % 10 = 4 ∨ z % 10 = 5 ∨ z % 10 = 6 ∨ z % 10 = 8)) ∨ (464 ≤ z ∧ z < 544) ∨ 784 ≤ z
def cq (M M1 : Int → Int) : Prop := ∀ z, cz z → M1 z = M z
theorem cq.rf (M : Int → Int) : cq M M := fun _ _ => rfl
theorem cq.tr {a b c : Int → Int} (h1 : cq a b) (h2 : cq b c) : cq a c := fun z hz => (h2 z hz).trans (h1 z hz)
theorem zupd_cq {M : Int → Int} {z v : Int} (hz : ¬ cz z) : cq M (zupd M z v) := fun y hy => zupd_n (fun e => hz (e ▸ hy))
theorem zupd_Bq {M : Int → Int} (h : Bq M) {z v : Int} (hz : ¬ rdz z) : Bq (zupd M z v) := Bq_ext h (fun y hy => zupd_n (fun e => hz (e ▸ hy)))
theorem Bq.h4 {M : Int → Int} (h : Bq M) : inb (M 4) 0 40 := h.1.2.2.1
theorem Bq.hd {M : Int → Int} (h : Bq M) : dimM M := h.1.1
theorem Bq.h7 {M : Int → Int} (h : Bq M) : 0 ≤ M 7 ∧ M 7 ≤ 80 := h.2.2.2.2.2.1.all h.h4
theorem Bq.ord {M : Int → Int} (h : Bq M) {o : Int} (h0 : 0 ≤ o) (h1 : o < M 4) : ordB M o := h.2.2.1 o h0 h1
theorem Bq.room {M : Int → Int} (h : Bq M) {o : Int} (h0 : 0 ≤ o) (h1 : o < M 4) : 0 ≤ M 7 ∧ M 7 ≤ 80 - (2 - wtM M o) := h.2.2.2.2.2.1.room h.h4 h0 h1
theorem Bq.pics {M : Int → Int} (h : Bq M) : picsB M := h.1.2.2.2.2.2.2.2
theorem wtM_0 {M : Int → Int} {o : Int} (h : M (64 + 10 * o + 3) = 0) : wtM M o = 0 := by unfold wtM wtI; rw [if_pos h]
theorem wtM_1 {M : Int → Int} {o : Int} (h : M (64 + 10 * o + 3) = 1) : wtM M o = 1 := by unfold wtM wtI; rw [if_neg (by omega), if_neg (by omega)]
theorem becM_3 {M : Int → Int} {o s : Int} : becM M o s (64 + 10 * o + 3) = s := by unfold becM; rw [zupd_n (by omega), zupd_s]
theorem becM_cq {M : Int → Int} {o s : Int} (h7 : 0 ≤ M 7) (h8 : M 7 < 80) (h0 : 0 ≤ o) (h1 : o < 40) : cq M (becM M o s) := fun z hz => becM_n h7 (by omega) (by omega) h8 (by omega) (by omega)
theorem arvM_n {M : Int → Int} {o z : Int} (h : z ≠ 64 + 10 * o + 5) : arvM M o z = M z := zupd_n h
theorem arvM_Bq {M : Int → Int} (h : Bq M) {o : Int} (h0 : 0 ≤ o) (h1 : o < M 4) : Bq (arvM M o) := zupd_Bq h (by have := h.h4; omega)
theorem reqM_Bq {M : Int → Int} (h : Bq M) (u : Int) : Bq (reqM M u) ∧ cq M (reqM M u) ∧ (∀ o, 0 ≤ o → o < M 4 → M (64 + 10 * o + 3) = 0 → reqM M u (64 + 10 * o + 3) = 0) ∧ M 7 ≤ reqM M u 7 ∧ reqM M u 7 ≤ M 7 + 1 ∧ ∀ k, 12 ≤ k → k < 36 → reqM M u k = M k := by
  unfold reqM
  rcases obyM_in M u h.h4 with e | ⟨b0, b1, b2, b3⟩
  · rw [if_pos e]
    exact ⟨h, cq.rf M, fun _ _ _ z => z, Int.le_refl _, by omega, fun _ _ _ => rfl⟩
  · rw [if_neg (by omega)]
    have hr := h.room b0 b1
    rw [wtM_1 b3] at hr
    have h4 := h.h4
    refine ⟨becM_Bq h b0 b1 (by omega) (by rw [wtM_1 b3]; rfl), becM_cq (by omega) (by omega) b0 (by omega), fun o o0 o1 z => ?_, ?_, ?_, fun k k0 k1 => becM_n (by omega) (by omega) (by omega) (by omega) (by omega) (by omega)⟩
    · rw [becM_n (by omega) (by omega) (by omega) (by omega) (fun e => by rw [e] at z; omega) (by omega)]; exact z
    · rw [becM_7 b0 (by omega)]; omega
    · rw [becM_7 b0 (by omega)]; omega
theorem arrM_Bq {M : Int → Int} (h : Bq M) {o : Int} (h0 : 0 ≤ o) (h1 : o < M 4) (hs : M (64 + 10 * o + 3) = 0) : Bq (arrM M o) ∧ cq M (arrM M o) ∧ arrM M o (64 + 10 * o + 3) ≠ 0 := by
  have h4 := h.h4
  have hu := (h.ord h0 h1).1
  have h2 := h.1.2.1
  have hB := arvM_Bq h h0 h1
  have e4 : arvM M o 4 = M 4 := arvM_n (by omega)
  have e7 : arvM M o 7 = M 7 := arvM_n (by omega)
  have es : arvM M o (64 + 10 * o + 3) = 0 := by rw [arvM_n (by omega)]; exact hs
  have hc : cq M (arvM M o) := zupd_cq (by omega)
  have hr := hB.room h0 (by rw [e4]; exact h1)
  rw [wtM_0 es] at hr
  unfold arrM
  split
  · exact ⟨becM_Bq hB h0 (by rw [e4]; exact h1) (by omega) (by rw [wtM_0 es]; rfl), hc.tr (becM_cq (by omega) (by omega) h0 (by omega)), by rw [becM_3]; decide⟩
  · obtain ⟨r1, r2, r3, r4, r5, r6⟩ := reqM_Bq hB (M (64 + 10 * o + 0))
    have f4 : reqM (arvM M o) (M (64 + 10 * o + 0)) 4 = M 4 := (r2 4 (by omega)).trans e4
    have fs := r3 o h0 (by rw [e4]; exact h1) es
    have hr2 := r1.room h0 (by rw [f4]; exact h1)
    rw [wtM_0 fs] at hr2
    have b := becM_Bq r1 (s := 1) h0 (by rw [f4]; exact h1) (by omega) (by rw [wtM_0 fs]; rfl)
    refine ⟨zupd_Bq b (by omega), (hc.tr (r2.tr (becM_cq (by omega) (by omega) h0 (by omega)))).tr (zupd_cq (by omega)), ?_⟩
    rw [zupd_n (by omega), becM_3]; decide
theorem cauM_Bq {M : Int → Int} (h : Bq M) {o w : Int} (h0 : 0 ≤ o) (h1 : o < M 4) (hs : M (64 + 10 * o + 3) = 0) (w0 : 0 ≤ w) (w1 : w < 4) : Bq (cauM M w o) ∧ cq M (cauM M w o) ∧ cauM M w o (64 + 10 * o + 3) ≠ 0 := by
  have h4 := h.h4
  unfold cauM
  have hB := zupd_Bq h (z := 36 + 7 * w + 6) (v := zw (M (36 + 7 * w + 6) + 1)) (by omega)
  have e4 : zupd M (36 + 7 * w + 6) (zw (M (36 + 7 * w + 6) + 1)) 4 = M 4 := zupd_n (by omega)
  have es : zupd M (36 + 7 * w + 6) (zw (M (36 + 7 * w + 6) + 1)) (64 + 10 * o + 3) = 0 := by rw [zupd_n (by omega)]; exact hs
  have hr := hB.room h0 (by rw [e4]; exact h1)
  rw [wtM_0 es] at hr
  exact ⟨becM_Bq hB h0 (by rw [e4]; exact h1) (by omega) (by rw [wtM_0 es]; rfl), (zupd_cq (by omega)).tr (becM_cq (by omega) (by omega) h0 (by omega)), by rw [becM_3]; decide⟩
theorem stpA_Bq {M : Int → Int} (h : Bq M) {o d : Int} (h0 : 0 ≤ o) (h1 : o < M 4) (hs : M (64 + 10 * o + 3) = 0) (hf : freM M (M (64 + 10 * o + 7) + dX d) (M (64 + 10 * o + 8) + dY d)) : Bq (stpA M o d) ∧ cq M (stpA M o d) := by
  obtain ⟨⟨d0, h2, h4, h5, h8, h9, hh, hp⟩, hU, hO, hN, hE, hC, hL⟩ := h
  have hA := hC.all h4
  have he : ∀ z, z ≠ 64 + 10 * o + 7 → z ≠ 64 + 10 * o + 8 → z ≠ 64 + 10 * o + 9 → stpA M o d z = M z := fun z a b c => stpA_n a b c
  have e0 := he 0 (by omega) (by omega) (by omega)
  have e1 := he 1 (by omega) (by omega) (by omega)
  have e2 := he 2 (by omega) (by omega) (by omega)
  have e4 := he 4 (by omega) (by omega) (by omega)
  have e5 := he 5 (by omega) (by omega) (by omega)
  have e7 := he 7 (by omega) (by omega) (by omega)
  have e8 := he 8 (by omega) (by omega) (by omega)
  have hw : ∀ c, 784 ≤ c → c < 928 → stpA M o d c = M c := fun c c0 c1 => he c (by omega) (by omega) (by omega)
  refine ⟨⟨⟨by unfold dimM; omega, by omega, by omega, by omega, by omega, by rw [he 9 (by omega) (by omega) (by omega)]; exact h9, ?_, ?_⟩, fun u u0 u1 => ?_, fun o1 o0 o2 => ?_, fun p p0 p1 => ?_, fun e ge ge1 => ?_, ?_, ?_, ?_⟩, fun z hz => he z (by omega) (by omega) (by omega)⟩
  · rw [he 10 (by omega) (by omega) (by omega), he 11 (by omega) (by omega) (by omega)]; exact freM_eq e0 e1 d0 hw hh
  · exact picsB_eq hp (he 3 (by omega) (by omega) (by omega)) (fun z z0 z1 z2 => he z (by omega) (by omega) (by omega))
  · rw [e2] at u1
    obtain ⟨q1, q2⟩ := hU u u0 u1
    rw [he (12 + 4 * u + 0) (by omega) (by omega) (by omega), he (12 + 4 * u + 1) (by omega) (by omega) (by omega), he (12 + 4 * u + 2) (by omega) (by omega) (by omega)]
    exact ⟨freM_eq e0 e1 d0 hw q1, q2⟩
  · rw [e4] at o2
    obtain ⟨q1, q2, q3, q4⟩ := hO o1 o0 o2
    unfold ordB
    rw [he (64 + 10 * o1 + 0) (by omega) (by omega) (by omega), he (64 + 10 * o1 + 3) (by omega) (by omega) (by omega), he (64 + 10 * o1 + 4) (by omega) (by omega) (by omega), he (64 + 10 * o1 + 6) (by omega) (by omega) (by omega), e2, e5]
    refine ⟨q1, q2, q3, fun z => ⟨?_, (q4 z).2⟩⟩
    by_cases e : o1 = o
    · subst e
      rw [stpA_7, stpA_8]
      exact freM_eq e0 e1 d0 hw hf
    · rw [he (64 + 10 * o1 + 7) (by omega) (by omega) (by omega), he (64 + 10 * o1 + 8) (by omega) (by omega) (by omega)]
      exact freM_eq e0 e1 d0 hw (q4 z).1
  · rw [e8] at p1
    rw [he (464 + 4 * p + 0) (by omega) (by omega) (by omega), e2]
    exact hN p p0 p1
  · rw [e7] at ge1
    obtain ⟨q1, q2⟩ := hE e ge ge1
    rw [he (544 + 3 * e + 1) (by omega) (by omega) (by omega), he (544 + 3 * e + 0) (by omega) (by omega) (by omega), e4, he (64 + 10 * M (544 + 3 * e + 1) + 4) (by omega) (by omega) (by omega)]
    exact ⟨q1, q2⟩
  · show stpA M o d 7 = sumI (wtM (stpA M o d)) (stpA M o d 4 - 0).toNat 0
    rw [e7, e4, sumI_congr (f := wtM (stpA M o d)) (g := wtM M) _ 0 (fun j j0 j1 => by unfold wtM; rw [he _ (by omega) (by omega) (by omega)])]
    exact hC
  · intro c c0 c1
    rw [hw (784 + c) (by omega) (by omega)]
    exact hL.1 c c0 c1
  · rw [he 6 (by omega) (by omega) (by omega), cntI_congr (p := fun c => decide (stpA M o d (784 + c) = 1)) (q := fun c => decide (M (784 + c) = 1)) 144 0 (fun j j0 j1 => by rw [hw (784 + j) (by omega) (by omega)])]
    exact hL.2
theorem metM_Bq {M : Int → Int} (h : Bq M) {o : Int} (h0 : 0 ≤ o) (h1 : o < M 4) (hs : M (64 + 10 * o + 3) = 0) : Bq (metM M o) ∧ cq M (metM M o) ∧ (metM M o (64 + 10 * o + 3) = 0 → metM M o = M) := by
  have hp := h.pics
  unfold metM
  split
  · split
    · obtain ⟨a, b, c⟩ := arrM_Bq h h0 h1 hs
      exact ⟨a, b, fun z => absurd z c⟩
    · exact ⟨h, cq.rf M, fun _ => rfl⟩
  · rename_i hw
    obtain ⟨w0, w1⟩ := (wchM_in M (M (64 + 10 * o + 7)) (M (64 + 10 * o + 8)) (M 5) hp.1).resolve_left hw
    have hp1 := hp.1
    obtain ⟨a, b, c⟩ := cauM_Bq h h0 h1 hs w0 (by omega)
    exact ⟨a, b, fun z => absurd z c⟩
theorem ridM_Bq {M F : Int → Int} (h : Bq M) {o : Int} (h0 : 0 ≤ o) (h1 : o < M 4) (hs : M (64 + 10 * o + 3) = 0) : Bq (ridM M F o) ∧ cq M (ridM M F o) ∧ (ridB M F o → ridM M F o = stpA M o (rdD M F o)) := by
  unfold ridM
  split
  · rename_i e
    exact ⟨h, cq.rf M, fun z => absurd e z.1⟩
  · rename_i e
    have hf := ((stpM_in M F (M (64 + 10 * o + 7)) (M (64 + 10 * o + 8))).resolve_left e).2.2
    have h4 := h.h4
    obtain ⟨b1, b2⟩ := stpA_Bq h (d := rdD M F o) h0 h1 hs hf
    have e4 : stpA M o (rdD M F o) 4 = M 4 := b2 4 (by omega)
    have es : stpA M o (rdD M F o) (64 + 10 * o + 3) = 0 := by rw [stpA_n (by omega) (by omega) (by omega)]; exact hs
    obtain ⟨a, b, c⟩ := metM_Bq b1 h0 (by rw [e4]; exact h1) es
    refine ⟨a, b2.tr b, fun z => c ?_⟩
    have z2 := z.2
    unfold ridM at z2
    rw [if_neg e] at z2
    exact z2
theorem ri2M_Bq {M F : Int → Int} (h : Bq M) {o : Int} (h0 : 0 ≤ o) (h1 : o < M 4) (hs : M (64 + 10 * o + 3) = 0) : Bq (ri2M M F o) ∧ cq M (ri2M M F o) := by
  obtain ⟨a, b, c⟩ := ridM_Bq (F := F) h h0 h1 hs
  unfold ri2M
  split
  · rename_i hb
    have e4 : ridM M F o 4 = M 4 := b 4 (by omega)
    obtain ⟨a2, b2, -⟩ := ridM_Bq (F := F) a h0 (by rw [e4]; exact h1) hb.2
    exact ⟨a2, b.tr b2⟩
  · exact ⟨a, b⟩
theorem carM_Bq {M : Int → Int} (h : Bq M) {o : Int} (h0 : 0 ≤ o) (h1 : o < M 4) (hs : M (64 + 10 * o + 3) = 0) : Bq (carM M o) ∧ cq M (carM M o) := by
  unfold carM
  split
  · obtain ⟨a, b, -⟩ := arrM_Bq h h0 h1 hs
    exact ⟨a, b⟩
  · exact ri2M_Bq h h0 h1 hs
theorem car1_Bq {M : Int → Int} (h : Bq M) {o : Int} (h0 : 0 ≤ o) (h1 : o < M 4) : Bq (car1 o M) ∧ cq M (car1 o M) := by
  unfold car1
  split
  · exact carM_Bq h h0 h1 (by assumption)
  · exact ⟨h, cq.rf M⟩
theorem los1_Bq {M : Int → Int} (h : Bq M) {o : Int} (h0 : 0 ≤ o) (h1 : o < M 4) : Bq (los1 o M) ∧ cq M (los1 o M) := by
  unfold los1
  split
  · rename_i hs
    have h4 := h.h4
    have hr := h.room h0 h1
    rw [wtM_0 hs.1] at hr
    exact ⟨becM_Bq h h0 h1 (by omega) (by rw [wtM_0 hs.1]; rfl), becM_cq (by omega) (by omega) h0 (by omega)⟩
  · exact ⟨h, cq.rf M⟩
