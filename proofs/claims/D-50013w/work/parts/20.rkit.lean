/-! THE REFERENCE's PICTURE: one object, ints S by field, arrays Ar by field (addresses ad) -/
set_option maxRecDepth 100000
abbrev rlen (k : Nat) : Nat := match k with
  | 0 => 3934 | 1 => 3934 | 2 => 3934 | 3 => 3934 | 4 => 39340 | 8 => 144 | 9 => 144 | 10 => 12 | 12 => 600 | _ => 200
def ridx (k : Nat) : Prop := k = 0 ∨ k = 1 ∨ k = 2 ∨ k = 3 ∨ k = 4 ∨ k = 8 ∨ k = 9 ∨ k = 10 ∨ k = 12 ∨ k = 25
def rint (k : Nat) : Prop := k = 5 ∨ k = 6 ∨ k = 11 ∨ k = 13 ∨ k = 14 ∨ k = 15 ∨ k = 16 ∨ k = 17 ∨ k = 18 ∨ k = 19 ∨ k = 20 ∨ k = 21 ∨ k = 22 ∨ k = 23 ∨ k = 27
def fsM (ad : Nat → Nat) (S : Nat → Int) : List SV := [sref (ad 0), sref (ad 1), sref (ad 2), sref (ad 3), sref (ad 4), .inl (S 5), .inl (S 6), .inl (S 7), sref (ad 8), sref (ad 9), sref (ad 10), .inl (S 11), sref (ad 12), .inl (S 13), .inl (S 14), .inl (S 15), .inl (S 16), .inl (S 17), .inl (S 18), .inl (S 19), .inl (S 20), .inl (S 21), .inl (S 22), .inl (S 23), sref (ad 24), sref (ad 25), sref (ad 26), .inl (S 27)]
def rS (S : Nat → Int) (j : Nat) (v : Int) : Nat → Int := fun i => if i = j then v else S i
def rA (Ar : Nat → Int → Int) (j : Nat) (g : Int → Int) : Nat → Int → Int := fun i => if i = j then g else Ar i
theorem rS_s (S : Nat → Int) (j : Nat) (v : Int) : rS S j v j = v := if_pos rfl
theorem rS_n {S : Nat → Int} {i j : Nat} {v : Int} (hn : i ≠ j) : rS S j v i = S i := if_neg hn
theorem rA_s (Ar : Nat → Int → Int) (j : Nat) (g : Int → Int) : rA Ar j g j = g := if_pos rfl
theorem rA_n {Ar : Nat → Int → Int} {i j : Nat} {g : Int → Int} (hn : i ≠ j) : rA Ar j g i = Ar i := if_neg hn
theorem rA_rA (Ar : Nat → Int → Int) (j : Nat) (g g2 : Int → Int) : rA (rA Ar j g) j g2 = rA Ar j g2 := by
  funext i; unfold rA; by_cases e : i = j <;> simp [e]
theorem rS_rS (S : Nat → Int) (j : Nat) (v w : Int) : rS (rS S j v) j w = rS S j w := by
  funext i; unfold rS; by_cases e : i = j <;> simp [e]
theorem rA_up {Ar Ar2 : Nat → Int → Int} {j : Nat} {g : Int → Int} (h1 : ∀ i, ¬ i = j → Ar i = Ar2 i) (h2 : g = Ar2 j) : rA Ar j g = Ar2 := by
  funext i; unfold rA; by_cases e : i = j
  · subst e; rw [if_pos rfl]; exact h2
  · rw [if_neg e]; exact h1 i e
theorem rA_id (Ar : Nat → Int → Int) (j : Nat) : rA Ar j (Ar j) = Ar := by
  funext i; unfold rA; by_cases e : i = j
  · subst e; simp
  · simp [e]
/-- the address of a String constant, from the law's start -/
def strA (G : GT) (ow : String) (j : Nat) : Nat := match (Term.string ow j).eval #[Value.ref (gb G)] (gs G) none [] (gs G) with
  | some (.ref a) => a
  | _ => 0
def RefAt (G : GT) (h : AH) (am : Nat) (ad : Nat → Nat) (nmf : Int → Option Nat) (S : Nat → Int) (Ar : Nat → Int → Int) : Prop :=
  h am = some (eo 3 (fsM ad S)) ∧ (∀ k, ridx k → h (ad k) = some (eI G (rlen k) (Ar k))) ∧ h (ad 26) = some (eJ G 200 (Ar 26)) ∧ h (ad 24) = some (eS G 9 nmf) ∧ (∀ i j, ridx i → ridx j → ad i = ad j → i = j) ∧ (∀ k z, zR (Ar k z)) ∧ ∀ j, zR (S j)
def RA (am : Nat) (ad : Nat → Nat) (q : Nat) : Prop := q = am ∨ ∃ k, q = ad k
section RK
variable {X : XT} {G : GT} {A : Nat → Prop} {h0 : AH} {cc : ByteArray} {nL : Nat} {own : String} {rm : Room} {ret : Option FieldType} {Q : State → Prop} {h : AH} {k n : Nat} {pc : Nat} {lv : List (Nat × SV)} {st : List SV} {am : Nat} {ad : Nat → Nat} {nmf : Int → Option Nat} {S : Nat → Int} {Ar : Nat → Int → Int}
theorem RefAt.ob (hr : RefAt G h am ad nmf S Ar) : h am = some (eo 3 (fsM ad S)) := hr.1
theorem RefAt.ar (hr : RefAt G h am ad nmf S Ar) (k : Nat) (hk : ridx k) : h (ad k) = some (eI G (rlen k) (Ar k)) := hr.2.1 k hk
theorem RefAt.sk (hr : RefAt G h am ad nmf S Ar) : h (ad 26) = some (eJ G 200 (Ar 26)) := hr.2.2.1
theorem RefAt.nm (hr : RefAt G h am ad nmf S Ar) : h (ad 24) = some (eS G 9 nmf) := hr.2.2.2.1
theorem RefAt.zA (hr : RefAt G h am ad nmf S Ar) (k : Nat) (z : Int) : zR (Ar k z) := hr.2.2.2.2.2.1 k z
theorem RefAt.zS (hr : RefAt G h am ad nmf S Ar) (j : Nat) : zR (S j) := hr.2.2.2.2.2.2 j
theorem eo_ne_eI {ci N : Nat} {fs : List SV} {g : Int → Int} (e : (some (eo ci fs) : Option va_E) = some (eI G N g)) : False := by cases e
theorem eo_ne_eJ {ci N : Nat} {fs : List SV} {g : Int → Int} (e : (some (eo ci fs) : Option va_E) = some (eJ G N g)) : False := by cases e
theorem eo_ne_eS {ci N : Nat} {fs : List SV} {g : Int → Option Nat} (e : (some (eo ci fs) : Option va_E) = some (eS G N g)) : False := by cases e
theorem eJ_ne_eI {N N2 : Nat} {f g : Int → Int} (e : (some (eJ G N f) : Option va_E) = some (eI G N2 g)) : False := by
  unfold eJ eI at e; injection e with e; injection e with e; injection e with e1 e2; injection e2 with e2 e3; cases e3
theorem eS_ne_eI {N N2 : Nat} {f : Int → Option Nat} {g : Int → Int} (e : (some (eS G N f) : Option va_E) = some (eI G N2 g)) : False := by
  unfold eS eI at e; injection e with e; injection e with e; injection e with e1 e2; injection e2 with e2 e3; cases e3
theorem eS_ne_eJ {N N2 : Nat} {f : Int → Option Nat} {g : Int → Int} (e : (some (eS G N f) : Option va_E) = some (eJ G N2 g)) : False := by
  unfold eS eJ at e; injection e with e; injection e with e; injection e with e1 e2; injection e2 with e2 e3; injection e3 with e3; cases e3
theorem fsM_set {j : Nat} (hj : rint j ∨ j = 7) (ad : Nat → Nat) (S : Nat → Int) (v : Int) : (fsM ad S).set j (.inl v) = fsM ad (rS S j v) := by
  unfold rint at hj
  rcases hj with (rfl | rfl | rfl | rfl | rfl | rfl | rfl | rfl | rfl | rfl | rfl | rfl | rfl | rfl | rfl) | rfl <;> rfl
theorem RefAt.seti (hr : RefAt G h am ad nmf S Ar) {j : Nat} {v : Int} (hv : zR v) : RefAt G (zup h am (eo 3 (fsM ad (rS S j v)))) am ad nmf (rS S j v) Ar := by
  obtain ⟨h1, h2, h3, h4, h5, h6, h7⟩ := hr
  refine ⟨zup_s _ _ _, fun k hk => ?_, ?_, ?_, h5, h6, fun i => ?_⟩
  · rw [zup_n (fun e => eo_ne_eI (G := G) (h1.symm.trans (e ▸ h2 k hk)))]; exact h2 k hk
  · rw [zup_n (fun e => eo_ne_eJ (G := G) (h1.symm.trans (e ▸ h3)))]; exact h3
  · rw [zup_n (fun e => eo_ne_eS (G := G) (h1.symm.trans (e ▸ h4)))]; exact h4
  · by_cases e : i = j
    · subst e; rw [rS_s]; exact hv
    · rw [rS_n e]; exact h7 i
theorem RefAt.seta (hr : RefAt G h am ad nmf S Ar) {j : Nat} (hj : ridx j) {g : Int → Int} (hg : ∀ z, zR (g z)) : RefAt G (zup h (ad j) (eI G (rlen j) g)) am ad nmf S (rA Ar j g) := by
  obtain ⟨h1, h2, h3, h4, h5, h6, h7⟩ := hr
  refine ⟨?_, fun k hk => ?_, ?_, ?_, h5, fun i z => ?_, h7⟩
  · rw [zup_n (fun e => eo_ne_eI (G := G) (h1.symm.trans (e ▸ h2 j hj)))]; exact h1
  · by_cases e : k = j
    · subst e; rw [zup_s, rA_s]
    · rw [zup_n (fun e2 => e (h5 k j hk hj e2)), rA_n e]; exact h2 k hk
  · rw [zup_n (fun e => eJ_ne_eI (G := G) (h3.symm.trans (e ▸ h2 j hj)))]
    by_cases e : 26 = j
    · subst e; unfold ridx at hj; omega
    · rw [rA_n e]; exact h3
  · rw [zup_n (fun e => eS_ne_eI (G := G) (h4.symm.trans (e ▸ h2 j hj)))]; exact h4
  · by_cases e : i = j
    · subst e; rw [rA_s]; exact hg z
    · rw [rA_n e]; exact h6 i z
theorem RefAt.setk (hr : RefAt G h am ad nmf S Ar) {g : Int → Int} (hg : ∀ z, zR (g z)) : RefAt G (zup h (ad 26) (eJ G 200 g)) am ad nmf S (rA Ar 26 g) := by
  obtain ⟨h1, h2, h3, h4, h5, h6, h7⟩ := hr
  refine ⟨?_, fun k hk => ?_, ?_, ?_, h5, fun i z => ?_, h7⟩
  · rw [zup_n (fun e => eo_ne_eJ (G := G) (h1.symm.trans (e ▸ h3)))]; exact h1
  · rw [zup_n (fun e => eJ_ne_eI (G := G) (h3.symm.trans (e ▸ h2 k hk)))]
    by_cases e : k = 26
    · subst e; unfold ridx at hk; omega
    · rw [rA_n e]; exact h2 k hk
  · rw [zup_s, rA_s]
  · rw [zup_n (fun e => eS_ne_eJ (G := G) (h4.symm.trans (e ▸ h3)))]; exact h4
  · by_cases e : i = 26
    · subst e; rw [rA_s]; exact hg z
    · rw [rA_n e]; exact h6 i z
theorem zupd_R {g : Int → Int} (hg : ∀ z, zR (g z)) {z v : Int} (hv : zR v) : ∀ y, zR (zupd g z v y) := fun y => by
  by_cases e : y = z
  · subst e; rw [zupd_s]; exact hv
  · rw [zupd_n e]; exact hg y
theorem r_puti (hO : OKX X G A cc nL own rm ret) (hr : RefAt G h am ad nmf S Ar) (hA : ∀ q, RA am ad q → A q) (j : Nat) {v : Int} {ix : Nat} (hj : rint j) (hq : Cond.fieldLink own ix (TX4 j).1 (TX4 j).2.1 (TX4 j).2.2.1 ∈ lw_all) {S2 : Nat → Int} (he : rS S j v = S2) (hv : zR v) (d : decode cc pc = .ok (.putfield ix, 3)) (kk : ∀ h, RefAt G h am ad nmf S2 Ar → VV X G A h0 nL Q h k n (pc + 3) lv st) : VV X G A h0 nL Q h k n pc lv (.inl v :: sref am :: st) := by
  subst he
  have key : (TX4 j).2.2.2 = false ∧ parseFieldDescriptor (TX4 j).2.2.1 = some .int ∧ j < 28 := by
    unfold rint at hj
    rcases hj with rfl | rfl | rfl | rfl | rfl | rfl | rfl | rfl | rfl | rfl | rfl | rfl | rfl | rfl | rfl <;> exact ⟨rfl, by decide +kernel, by decide⟩
  exact v_putf hO cp_X4 cn_X4 j hq hr.ob (hA _ (Or.inl rfl)) key.2.2 key.1 key.2.1 rfl rfl key.2.2 (fsM_set (Or.inl hj) ad S v) d (kk _ (hr.seti hv))
theorem r_putz (hO : OKX X G A cc nL own rm ret) (hr : RefAt G h am ad nmf S Ar) (hA : ∀ q, RA am ad q → A q) {v : Int} {ix : Nat} (hq : Cond.fieldLink own ix (TX4 7).1 (TX4 7).2.1 (TX4 7).2.2.1 ∈ lw_all) {S2 : Nat → Int} (he : rS S 7 v = S2) (hv : v = 0 ∨ v = 1) (d : decode cc pc = .ok (.putfield ix, 3)) (kk : ∀ h, RefAt G h am ad nmf S2 Ar → VV X G A h0 nL Q h k n (pc + 3) lv st) : VV X G A h0 nL Q h k n pc lv (.inl v :: sref am :: st) := by
  subst he
  exact v_putf hO cp_X4 cn_X4 (ty := .boolean) 7 hq hr.ob (hA _ (Or.inl rfl)) (by decide) rfl (by decide +kernel) (nar_z hv) (by rcases hv with rfl | rfl <;> decide +kernel) (Nat.le_of_ble_eq_true rfl) (fsM_set (Or.inr rfl) ad S v) d (kk _ (hr.seti (by rcases hv with rfl | rfl <;> (unfold zR; decide))))
theorem r_iald (hO : OKX X G A cc nL own rm ret) (hr : RefAt G h am ad nmf S Ar) (j : Nat) {z w : Int} {L : Nat} (hj : ridx j) (hL : rlen j = L) (hw : Ar j z = w) (h1 : 0 ≤ z) (h2 : z < L) (d : decode cc pc = .ok (.iaload, 1)) (kk : VV X G A h0 nL Q h k n (pc + 1) lv (.inl w :: st)) : VV X G A h0 nL Q h k n pc lv (.inl z :: sref (ad j) :: st) := by
  subst hw; subst hL
  exact v_iald hO (hr.ar j hj) h1 h2 (by unfold ridx at hj; rcases hj with rfl | rfl | rfl | rfl | rfl | rfl | rfl | rfl | rfl | rfl <;> decide) d kk
theorem r_iast (hO : OKX X G A cc nL own rm ret) (hr : RefAt G h am ad nmf S Ar) (hA : ∀ q, RA am ad q → A q) (j : Nat) {z v : Int} {L : Nat} {Ar2 : Nat → Int → Int} (hj : ridx j) (hL : rlen j = L) (he : rA Ar j (zupd (Ar j) z v) = Ar2) (h1 : 0 ≤ z) (h2 : z < L) (hv : zR v) (d : decode cc pc = .ok (.iastore, 1)) (kk : ∀ h, RefAt G h am ad nmf S Ar2 → VV X G A h0 nL Q h k n (pc + 1) lv st) : VV X G A h0 nL Q h k n pc lv (.inl v :: .inl z :: sref (ad j) :: st) := by
  subst he; subst hL
  exact v_iast hO (hr.ar j hj) (hA _ (Or.inr ⟨j, rfl⟩)) h1 h2 (by unfold ridx at hj; rcases hj with rfl | rfl | rfl | rfl | rfl | rfl | rfl | rfl | rfl | rfl <;> decide) d (kk _ (hr.seta hj (zupd_R (hr.zA j) hv)))
theorem r_lald (hO : OKX X G A cc nL own rm ret) (hr : RefAt G h am ad nmf S Ar) {z w : Int} (hw : Ar 26 z = w) (h1 : 0 ≤ z) (h2 : z < 200) (d : decode cc pc = .ok (.laload, 1)) (kk : VV X G A h0 nL Q h k n (pc + 1) lv (.inr (.long (zl w)) :: st)) : VV X G A h0 nL Q h k n pc lv (.inl z :: sref (ad 26) :: st) := by
  subst hw
  exact v_lald hO hr.sk h1 h2 (by decide) d kk
theorem r_last (hO : OKX X G A cc nL own rm ret) (hr : RefAt G h am ad nmf S Ar) (hA : ∀ q, RA am ad q → A q) {z v : Int} {Ar2 : Nat → Int → Int} (he : rA Ar 26 (zupd (Ar 26) z v) = Ar2) (h1 : 0 ≤ z) (h2 : z < 200) (hv : zR v) (d : decode cc pc = .ok (.lastore, 1)) (kk : ∀ h, RefAt G h am ad nmf S Ar2 → VV X G A h0 nL Q h k n (pc + 1) lv st) : VV X G A h0 nL Q h k n pc lv (.inr (.long (zl v)) :: .inl z :: sref (ad 26) :: st) := by
  subst he
  exact v_last hO hr.sk (hA _ (Or.inr ⟨26, rfl⟩)) h1 h2 (by decide) d (kk _ (hr.setk (zupd_R (hr.zA 26) hv)))
end RK

theorem ri_0 : ridx 0 := by unfold ridx; decide
theorem ri_1 : ridx 1 := by unfold ridx; decide
theorem ri_2 : ridx 2 := by unfold ridx; decide
theorem ri_3 : ridx 3 := by unfold ridx; decide
theorem ri_4 : ridx 4 := by unfold ridx; decide
theorem ri_8 : ridx 8 := by unfold ridx; decide
theorem ri_9 : ridx 9 := by unfold ridx; decide
theorem ri_10 : ridx 10 := by unfold ridx; decide
theorem ri_12 : ridx 12 := by unfold ridx; decide
theorem ri_25 : ridx 25 := by unfold ridx; decide
theorem rn_5 : rint 5 := by unfold rint; decide
theorem rn_6 : rint 6 := by unfold rint; decide
theorem rn_11 : rint 11 := by unfold rint; decide
theorem rn_13 : rint 13 := by unfold rint; decide
theorem rn_14 : rint 14 := by unfold rint; decide
theorem rn_15 : rint 15 := by unfold rint; decide
theorem rn_16 : rint 16 := by unfold rint; decide
theorem rn_17 : rint 17 := by unfold rint; decide
theorem rn_18 : rint 18 := by unfold rint; decide
theorem rn_19 : rint 19 := by unfold rint; decide
theorem rn_20 : rint 20 := by unfold rint; decide
theorem rn_21 : rint 21 := by unfold rint; decide
theorem rn_22 : rint 22 := by unfold rint; decide
theorem rn_23 : rint 23 := by unfold rint; decide
theorem rn_27 : rint 27 := by unfold rint; decide
