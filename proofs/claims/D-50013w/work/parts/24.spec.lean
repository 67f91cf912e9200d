/-! THE BOARD's STEPS as functions of its numbers -/
set_option maxRecDepth 100000
def zw (z : Int) : Int := (zi z).toInt
theorem zi_zw (z : Int) : zi (zw z) = zi z := zi_of _
theorem zw_R (z : Int) : zR (zw z) := zR_of _
theorem zw_id {z : Int} (h : zR z) : zw z = z := zi_toInt h
def becM (M : Int → Int) (o st : Int) : Int → Int := zupd (zupd (zupd (zupd (zupd (zupd M (544 + 3 * M 7) (M 5)) (544 + 3 * M 7 + 1) o) (544 + 3 * M 7 + 2) st) 7 (M 7 + 1)) (64 + 10 * o + 3) st) (64 + 10 * o + 6) (if st = 1 then -1 else M 5)
def dspM (M : Int → Int) (u x y : Int) : Int → Int := zupd (zupd (zupd (zupd (zupd (zupd (zupd (zupd (zupd (zupd (zupd M (64 + 10 * M 4 + 0) u) (64 + 10 * M 4 + 1) x) (64 + 10 * M 4 + 2) y) (64 + 10 * M 4 + 3) 0) (64 + 10 * M 4 + 4) (M 5)) (64 + 10 * M 4 + 5) (-1)) (64 + 10 * M 4 + 6) (-1)) (64 + 10 * M 4 + 7) (M 10)) (64 + 10 * M 4 + 8) (M 11)) (64 + 10 * M 4 + 9) 0) 4 (M 4 + 1)
def arvM (M : Int → Int) (o : Int) : Int → Int := zupd M (64 + 10 * o + 5) (M 5)
def reqM (M : Int → Int) (u : Int) : Int → Int := if obyM M u = -1 then M else becM M (obyM M u) 6
def arrM (M : Int → Int) (o : Int) : Int → Int := if o < M (12 + 4 * M (64 + 10 * o + 0) + 3) then becM (arvM M o) o 3 else zupd (becM (reqM (arvM M o) (M (64 + 10 * o + 0))) o 1) (12 + 4 * M (64 + 10 * o + 0) + 3) o
def stpA (M : Int → Int) (o d : Int) : Int → Int := zupd (zupd (zupd M (64 + 10 * o + 7) (M (64 + 10 * o + 7) + dX d)) (64 + 10 * o + 8) (M (64 + 10 * o + 8) + dY d)) (64 + 10 * o + 9) (zw (M (64 + 10 * o + 9) + 1))
def cauM (M : Int → Int) (w o : Int) : Int → Int := becM (zupd M (36 + 7 * w + 6) (zw (M (36 + 7 * w + 6) + 1))) o 5
def metM (M : Int → Int) (o : Int) : Int → Int := if wchM M (M (64 + 10 * o + 7)) (M (64 + 10 * o + 8)) (M 5) = -1 then (if thrP M o then arrM M o else M) else cauM M (wchM M (M (64 + 10 * o + 7)) (M (64 + 10 * o + 8)) (M 5)) o
def rdD (M F : Int → Int) (o : Int) : Int := stpM M F (M (64 + 10 * o + 7)) (M (64 + 10 * o + 8))
def ridM (M F : Int → Int) (o : Int) : Int → Int := if rdD M F o = -1 then M else metM (stpA M o (rdD M F o)) o
abbrev ridB (M F : Int → Int) (o : Int) : Prop := rdD M F o ≠ -1 ∧ ridM M F o (64 + 10 * o + 3) = 0
def layM (M : Int → Int) (x y : Int) : Int → Int := (layS M x y (fun _ => 1000) (fun _ => 0)).1
def ri2M (M F : Int → Int) (o : Int) : Int → Int := if ridB M F o then ridM (ridM M F o) F o else ridM M F o
def carM (M : Int → Int) (o : Int) : Int → Int := if thrP M o then arrM M o else ri2M M (layM M (M (12 + 4 * M (64 + 10 * o + 0) + 0)) (M (12 + 4 * M (64 + 10 * o + 0) + 1))) o
def snd1 (p : Int) (M : Int → Int) : Int → Int := if M (464 + 4 * p + 3) = M 5 ∧ M 4 < 40 then dspM M (M (464 + 4 * p + 0)) (M (464 + 4 * p + 1)) (M (464 + 4 * p + 2)) else M
def sndM (M : Int → Int) : Int → Int := itI snd1 (M 8 - 0).toNat 0 M
def wlkA (M : Int → Int) (u d : Int) : Int → Int := zupd (zupd M (12 + 4 * u + 0) (M (12 + 4 * u + 0) + dX d)) (12 + 4 * u + 1) (M (12 + 4 * u + 1) + dY d)
def wlkD (M : Int → Int) (u o : Int) : Int := stpM M (layM M (M (64 + 10 * o + 1)) (M (64 + 10 * o + 2))) (M (12 + 4 * u + 0)) (M (12 + 4 * u + 1))
def wlkM (M : Int → Int) (u o : Int) : Int → Int := if wlkD M u o = -1 then M else wlkA M u (wlkD M u o)
def mvwM (M : Int → Int) (u o : Int) : Int → Int := if ¬ golP M u o ∧ M 5 % M (12 + 4 * u + 2) = 0 then wlkM M u o else M
def mvdM (M : Int → Int) (u o : Int) : Int → Int := if golP M u o then becM M o 2 else M
def movM (u : Int) (M : Int → Int) : Int → Int := if obyM M u = -1 then M else mvdM (mvwM M u (obyM M u)) u (obyM M u)
def rem1 (u : Int) (M : Int → Int) : Int → Int := zupd M (928 + 501 * u + M 5) (100 * M (12 + 4 * u + 1) + M (12 + 4 * u + 0))
def remM (M : Int → Int) : Int → Int := if M 5 ≤ 500 then itI rem1 (M 2 - 0).toNat 0 M else M
def car1 (o : Int) (M : Int → Int) : Int → Int := if M (64 + 10 * o + 3) = 0 then carM M o else M
def los1 (o : Int) (M : Int → Int) : Int → Int := if M (64 + 10 * o + 3) = 0 ∧ M 9 ≤ M 5 - M (64 + 10 * o + 4) then becM M o 4 else M
def ps1M (M : Int → Int) : Int → Int := itI car1 (M 4 - 0).toNat 0 M
def ps2M (M : Int → Int) : Int → Int := itI los1 (M 4 - 0).toNat 0 M
def ps3M (M : Int → Int) : Int → Int := itI movM (M 2 - 0).toNat 0 M
def pasM (M : Int → Int) : Int → Int := remM (zupd (ps3M (ps2M (ps1M (sndM M)))) 5 (ps3M (ps2M (ps1M (sndM M))) 5 + 1))
theorem obyM_in (M : Int → Int) (u : Int) (hn : inb (M 4) 0 40) : obyM M u = -1 ∨ (0 ≤ obyM M u ∧ obyM M u < M 4 ∧ M (64 + 10 * obyM M u + 0) = u ∧ M (64 + 10 * obyM M u + 3) = 1) := by
  rcases fstI_in (obyP M u) (M 4 - 0).toNat 0 with h | ⟨h1, h2, h3⟩
  · exact Or.inl h
  · have h4 := of_decide_eq_true h3
    refine Or.inr ⟨h1, ?_, h4.1, h4.2⟩
    show fstI (obyP M u) (M 4 - 0).toNat 0 < M 4
    have := hn.1
    omega
theorem wchM_in (M : Int → Int) (x y t : Int) (hn : inb (M 3) 0 4) : wchM M x y t = -1 ∨ (0 ≤ wchM M x y t ∧ wchM M x y t < M 3) := by
  rcases fstI_in (wchP M x y t) (M 3 - 0).toNat 0 with h | ⟨h1, h2, h3⟩
  · exact Or.inl h
  · refine Or.inr ⟨h1, ?_⟩
    show fstI (wchP M x y t) (M 3 - 0).toNat 0 < M 3
    have := hn.1
    omega
theorem stpM_in (M F : Int → Int) (x y : Int) : stpM M F x y = -1 ∨ (0 ≤ stpM M F x y ∧ stpM M F x y < 4 ∧ freM M (x + dX (stpM M F x y)) (y + dY (stpM M F x y))) := by
  rcases fstI_in (stpP M F x y) ((4 : Int) - 0).toNat 0 with h | ⟨h1, h2, h3⟩
  · exact Or.inl h
  · have h4 := of_decide_eq_true h3
    exact Or.inr ⟨h1, (by show fstI (stpP M F x y) ((4 : Int) - 0).toNat 0 < 4; omega), h4.1⟩
theorem becM_7 {M : Int → Int} {o s : Int} (h0 : 0 ≤ o) (h7 : 0 ≤ M 7) : becM M o s 7 = M 7 + 1 := by
  unfold becM
  rw [zupd_n (by omega), zupd_n (by omega), zupd_s]
theorem becM_n {M : Int → Int} {o s z : Int} (h7 : 0 ≤ M 7) (h1 : z ≠ 7) (h2 : z < 544 ∨ 784 ≤ z) (h8 : M 7 < 80) (h3 : z ≠ 64 + 10 * o + 3) (h4 : z ≠ 64 + 10 * o + 6) : becM M o s z = M z := by
  unfold becM
  rw [zupd_n h4, zupd_n h3, zupd_n h1, zupd_n (by omega), zupd_n (by omega), zupd_n (by omega)]
theorem picsB_eq {M M1 : Int → Int} (h : picsB M) (h3 : M1 3 = M 3) (he : ∀ z, 36 ≤ z → z < 64 → (∀ p, z ≠ 36 + 7 * p + 6) → M1 z = M z) : picsB M1 := by
  obtain ⟨h1, h2⟩ := h
  refine ⟨by rw [h3]; exact h1, fun p p0 p1 => ?_⟩
  rw [h3] at p1
  have k : p < 4 := by omega
  have q := h2 p p0 p1
  unfold picB at q ⊢
  rw [he (36 + 7 * p + 0) (by omega) (by omega) (fun _ => by omega), he (36 + 7 * p + 1) (by omega) (by omega) (fun _ => by omega), he (36 + 7 * p + 2) (by omega) (by omega) (fun _ => by omega), he (36 + 7 * p + 3) (by omega) (by omega) (fun _ => by omega), he (36 + 7 * p + 4) (by omega) (by omega) (fun _ => by omega), he (36 + 7 * p + 5) (by omega) (by omega) (fun _ => by omega)]
  exact q
theorem stpA_n {M : Int → Int} {o d z : Int} (h7 : z ≠ 64 + 10 * o + 7) (h8 : z ≠ 64 + 10 * o + 8) (h9 : z ≠ 64 + 10 * o + 9) : stpA M o d z = M z := by
  unfold stpA; rw [zupd_n h9, zupd_n h8, zupd_n h7]
theorem stpA_7 (M : Int → Int) (o d : Int) : stpA M o d (64 + 10 * o + 7) = M (64 + 10 * o + 7) + dX d := by
  unfold stpA; rw [zupd_n (by omega), zupd_n (by omega), zupd_s]
theorem stpA_8 (M : Int → Int) (o d : Int) : stpA M o d (64 + 10 * o + 8) = M (64 + 10 * o + 8) + dY d := by
  unfold stpA; rw [zupd_n (by omega), zupd_s]
