/-! THE REFERENCE, 5: history, trials, operations -/
set_option maxRecDepth 100000
theorem arrV_ext (c : ClassId) (N : Nat) (f g : Nat → Value) (h : ∀ k, k < N → f k = g k) : arrV c N f = arrV c N g := by
  unfold arrV
  congr 1
  congr 1
  funext j
  exact h j.val j.isLt
section RX
variable {X : XT} {G : GT} {A : Nat → Prop} {h0 : AH} {cc : ByteArray} {nL : Nat} {own : String} {rm : Room} {ret : Option FieldType} {Q : State → Prop} {h : AH} {k n : Nat} {pc : Nat} {lv : List (Nat × SV)} {st : List SV} {am : Nat} {ad : Nat → Nat} {nmf : Int → Option Nat} {S : Nat → Int} {Ar : Nat → Int → Int}
/-- an array's function may be changed where the array has no places -/
theorem r_ext (hO : OKX X G A cc nL own rm ret) (hr : RefAt G h am ad nmf S Ar) (hA : ∀ q, RA am ad q → A q) (j : Nat) {g : Int → Int} (hj : ridx j) (hg : ∀ z : Int, 0 ≤ z → z < (rlen j : Nat) → g z = Ar j z) (hgR : ∀ z, zR (g z)) (kk : ∀ h, RefAt G h am ad nmf S (rA Ar j g) → VV X G A h0 nL Q h k n pc lv st) : VV X G A h0 nL Q h k n pc lv st := by
  intro H locs ls hR hS hf hL
  obtain ⟨hN, hat⟩ := hR.2.2 _ _ (hr.ar j hj)
  have hat : H[ad j]? = some (arrV (gC G 0) (rlen j) (fun q => Value.int (zi (Ar j q)))) := hat
  refine kk (zup h (ad j) (eI G (rlen j) g)) (hr.seta hj hgR) H locs ls (hR.set (Nat.le_refl _) hN ?_ (fun q _ _ => rfl)) hS (frame_up hf (hA _ (Or.inr ⟨j, rfl⟩))) hL
  show H[ad j]? = some (arrV (gC G 0) (rlen j) (fun q => Value.int (zi (g q))))
  rw [hat]
  exact congrArg some (arrV_ext _ _ _ _ (fun q hq => by rw [hg q (Int.natCast_nonneg q) (by omega)]))
end RX
def cpyM (F T : Int → Int) (a b : Int) : Int → Int := fun z => if 3934 * b ≤ z ∧ z < 3934 * b + 3934 then F (3934 * a + (z - 3934 * b)) else T z
/-- rows of the history -/
def Hst (Hh : Int → Int) (n : Int) (rows : Int → Int → Int) : Prop := ∀ r z, 0 ≤ r → r < n → 0 ≤ z → z < 3934 → Hh (3934 * r + z) = rows r z
def recN (n : Int) : Int := if n = 10 then 10 else n + 1
def recR (rows : Int → Int → Int) (n : Int) (M : Int → Int) : Int → Int → Int := fun r => if n = 10 then (if r = 9 then M else rows (r + 1)) else if r = n then M else rows r
def scr2 (Ar2 Ar : Nat → Int → Int) : Prop := ∀ j, j ≠ 0 → j ≠ 2 → j ≠ 8 → j ≠ 9 → Ar2 j = Ar j
theorem rA_sw {Ar : Nat → Int → Int} {j k : Nat} {f g : Int → Int} (h : j ≠ k) : rA (rA Ar j f) k g = rA (rA Ar k g) j f := by
  funext i; unfold rA; by_cases e : i = k
  · subst e; rw [if_pos rfl, if_neg (fun e2 => h e2.symm), if_pos rfl]
  · rw [if_neg e]; by_cases e2 : i = j
    · rw [if_pos e2, if_pos e2]
    · rw [if_neg e2, if_neg e2, if_neg e]
theorem rS_sw {S : Nat → Int} {j k : Nat} {f g : Int} (h : j ≠ k) : rS (rS S j f) k g = rS (rS S k g) j f := by
  funext i; unfold rS; by_cases e : i = k
  · subst e; rw [if_pos rfl, if_neg (fun e2 => h e2.symm), if_pos rfl]
  · rw [if_neg e]; by_cases e2 : i = j
    · rw [if_pos e2, if_pos e2]
    · rw [if_neg e2, if_neg e2, if_neg e]
theorem scr2_rf (Ar : Nat → Int → Int) : scr2 Ar Ar := fun _ _ _ _ _ => rfl
theorem scr.s2 {a b : Nat → Int → Int} (h : scr a b) : scr2 a b := fun j h0 _ h8 h9 => h j h0 h8 h9
theorem scr2.tr {a b c : Nat → Int → Int} (h1 : scr2 a b) (h2 : scr2 b c) : scr2 a c := fun j g0 g2 g8 g9 => (h1 j g0 g2 g8 g9).trans (h2 j g0 g2 g8 g9)
theorem scr2_2 (Ar : Nat → Int → Int) (g : Int → Int) : scr2 (rA Ar 2 g) Ar := fun j _ h2 _ _ => rA_n h2
theorem scr2_0 (Ar : Nat → Int → Int) (g : Int → Int) : scr2 (rA Ar 0 g) Ar := fun j h0 _ _ _ => rA_n h0
theorem yo_X4_copy : yOK yX4_copy 4 := by unfold yOK; exact ⟨by decide +kernel, by decide +kernel, by decide +kernel⟩
set_option maxRecDepth 100000 in
theorem m_copy {G : GT} {h : AH} {am : Nat} {ad : Nat → Nat} {nmf : Int → Option Nat} {S : Nat → Int} {Ar : Nat → Int → Int} (hr : RefAt G h am ad nmf S Ar) {A : Nat → Prop} (hA : ∀ q, RA am ad q → A q) (i j : Nat) (a b : Int) (hi : ridx i) (hj : ridx j) (hij : i ≠ j) (ha : 0 ≤ a) (hb : 0 ≤ b) (ha9 : a < 10) (hb9 : b < 10) (hla : 3934 * a + 3934 ≤ rlen i) (hlb : 3934 * b + 3934 ≤ rlen j) : CC G yX4_copy cX4_copy 5 (none) ({ frames := 1, cells := 0, slots := 0, locals := 12 } : Room) A [sref (ad i), .inl a, sref (ad j), .inl b] h (fun v h1 => v = none ∧ RefAt G h1 am ad nmf S (rA Ar j (cpyM (Ar i) (Ar j) a b))) := by
  refine CC.of (by decide +kernel) [(0, sref (ad i)), (1, .inl a), (2, sref (ad j)), (3, .inl b)] rfl (Nat.le_of_ble_eq_true rfl) (fun X hnm hO => ?_)
  have hZi : ∀ z, zR (Ar i z) := hr.zA i
  refine v_iconst (pc := 0) hO dX4_copy_0 ?_
  refine v_istore (pc := 1) hO (lv' := [(4, .inl 0), (0, sref (ad i)), (1, .inl a), (2, sref (ad j)), (3, .inl b)]) dX4_copy_1 (by decide) rfl ?_
  refine v_pick (lv2 := [(0, sref (ad i)), (1, .inl a), (2, sref (ad j)), (3, .inl b), (4, .inl 0)]) [1, 2, 3, 4, 0] rfl ?_
  refine v_loop (σ := Int × (Int → Int) × AH) (fun (q, T1, hL) => 0 ≤ q ∧ q ≤ 3934 ∧ RefAt G hL am ad nmf S (rA Ar j T1) ∧ (∀ z, zR (T1 z)) ∧ (∀ z, T1 z = if 3934 * b ≤ z ∧ z < 3934 * b + q then Ar i (3934 * a + (z - 3934 * b)) else Ar j z)) (fun (q, T1, hL) => (3934 - q).toNat) (fun (q, T1, hL) => hL) (fun (q, T1, hL) => [(0, sref (ad i)), (1, .inl a), (2, sref (ad j)), (3, .inl b), (4, .inl q)]) (0, Ar j, h) ⟨Int.le_refl _, (by decide), (by rw [rA_id]; exact hr), (hr.zA j), (fun z => (if_neg (by omega)).symm)⟩ ?_
  rintro ⟨q, T1, hL⟩ ⟨hq0, hq1, hr, hT, hk⟩ ih
  show VV X G A _ _ _ hL _ _ 3 [(0, sref (ad i)), (1, .inl a), (2, sref (ad j)), (3, .inl b), (4, .inl q)] []
  refine v_iload (pc := 3) hO dX4_copy_3 rfl ?_
  refine v_sipush (pc := 5) hO dX4_copy_5 (by decide +kernel) ?_
  refine v_icmp_ge (pc := 8) (tgt := 37) hO dX4_copy_8 (by decide) (by first | assumption | exact hZi _ | (unfold zR; omega)) (by first | assumption | exact hZi _ | (unfold zR; omega)) (fun c8 => ?_) (fun c8 => ?_)
  · have hT2 : T1 = cpyM (Ar i) (Ar j) a b := (by funext z; rw [hk z]; unfold cpyM; have eq : q = 3934 := (by omega); subst eq; rfl)
    subst hT2
    exact v_vret hO dX4_copy_37 rfl (Nat.le_of_ble_eq_true rfl) (Nat.le_of_ble_eq_true rfl) ⟨rfl, hr⟩
  · refine v_aload_n (pc := 11) hO dX4_copy_11 rfl ?_
    refine v_sipush (pc := 12) hO dX4_copy_12 (by decide +kernel) ?_
    refine v_iload_n (pc := 15) hO dX4_copy_15 rfl ?_
    refine v_imul (pc := 16) hO dX4_copy_16 ?_
    refine v_iload (pc := 17) hO dX4_copy_17 rfl ?_
    refine v_iadd (pc := 19) hO dX4_copy_19 ?_
    refine v_aload_n (pc := 20) hO dX4_copy_20 rfl ?_
    refine v_sipush (pc := 21) hO dX4_copy_21 (by decide +kernel) ?_
    refine v_iload_n (pc := 24) hO dX4_copy_24 rfl ?_
    refine v_imul (pc := 25) hO dX4_copy_25 ?_
    refine v_iload (pc := 26) hO dX4_copy_26 rfl ?_
    refine v_iadd (pc := 28) hO dX4_copy_28 ?_
    refine r_iald (pc := 29) (w := (Ar i (3934 * a + q))) (L := rlen i) hO hr i hi rfl (congrFun (rA_n hij) _) (by omega) (by omega) dX4_copy_29 ?_
    refine r_iast (pc := 30) (Ar2 := rA Ar j (zupd T1 (3934 * b + q) ((Ar i (3934 * a + q))))) (L := rlen j) hO hr hA j hj rfl ((congrArg (rA _ _) (by rw [rA_s])).trans (rA_rA _ _ _ _)) (by omega) (by omega) (by first | assumption | exact hZi _ | (unfold zR; omega)) dX4_copy_30 (fun h hr => ?_)
    refine v_iinc (pc := 31) hO (lv' := [(4, .inl (q + 1)), (0, sref (ad i)), (1, .inl a), (2, sref (ad j)), (3, .inl b)]) dX4_copy_31 rfl (by decide) rfl ?_
    refine v_goto (pc := 34) (tgt := 3) hO dX4_copy_34 (by decide) ?_
    refine v_pick (lv2 := [(0, sref (ad i)), (1, .inl a), (2, sref (ad j)), (3, .inl b), (4, .inl ((q + 1)))]) [1, 2, 3, 4, 0] rfl ?_
    exact ih (q + 1, zupd T1 (3934 * b + q) ((Ar i (3934 * a + q))), _) ⟨(by omega), (by omega), hr, (zupd_R hT (by first | assumption | exact hZi _ | (unfold zR; omega))), (fun z => by
        by_cases e : z = 3934 * b + q
        · subst e; rw [zupd_s, if_pos (by omega)]; exact congrArg _ (by omega)
        · rw [zupd_n e, hk z]; (repeat' split) <;> first | rfl | omega)⟩ (by show (3934 - (q + 1)).toNat < (3934 - q).toNat; omega)
set_option maxRecDepth 100000 in
theorem m_copyH {G : GT} {h : AH} {am : Nat} {ad : Nat → Nat} {nmf : Int → Option Nat} {S : Nat → Int} {Ar : Nat → Int → Int} (hr : RefAt G h am ad nmf S Ar) {A : Nat → Prop} (hA : ∀ q, RA am ad q → A q) (j : Nat) (a b : Int) (hj : ridx j) (hab : a ≠ b) (ha : 0 ≤ a) (hb : 0 ≤ b) (ha9 : a < 10) (hb9 : b < 10) (hla : 3934 * a + 3934 ≤ rlen j) (hlb : 3934 * b + 3934 ≤ rlen j) : CC G yX4_copy cX4_copy 5 (none) ({ frames := 1, cells := 0, slots := 0, locals := 12 } : Room) A [sref (ad j), .inl a, sref (ad j), .inl b] h (fun v h1 => v = none ∧ RefAt G h1 am ad nmf S (rA Ar j (cpyM (Ar j) (Ar j) a b))) := by
  refine CC.of (by decide +kernel) [(0, sref (ad j)), (1, .inl a), (2, sref (ad j)), (3, .inl b)] rfl (Nat.le_of_ble_eq_true rfl) (fun X hnm hO => ?_)
  refine v_iconst (pc := 0) hO dX4_copy_0 ?_
  refine v_istore (pc := 1) hO (lv' := [(4, .inl 0), (0, sref (ad j)), (1, .inl a), (2, sref (ad j)), (3, .inl b)]) dX4_copy_1 (by decide) rfl ?_
  refine v_pick (lv2 := [(0, sref (ad j)), (1, .inl a), (2, sref (ad j)), (3, .inl b), (4, .inl 0)]) [1, 2, 3, 4, 0] rfl ?_
  refine v_loop (σ := Int × (Int → Int) × AH) (fun (q, T1, hL) => 0 ≤ q ∧ q ≤ 3934 ∧ RefAt G hL am ad nmf S (rA Ar j T1) ∧ (∀ z, zR (T1 z)) ∧ (∀ z, T1 z = if 3934 * b ≤ z ∧ z < 3934 * b + q then Ar j (3934 * a + (z - 3934 * b)) else Ar j z)) (fun (q, T1, hL) => (3934 - q).toNat) (fun (q, T1, hL) => hL) (fun (q, T1, hL) => [(0, sref (ad j)), (1, .inl a), (2, sref (ad j)), (3, .inl b), (4, .inl q)]) (0, Ar j, h) ⟨Int.le_refl _, (by decide), (by rw [rA_id]; exact hr), (hr.zA j), (fun z => (if_neg (by omega)).symm)⟩ ?_
  rintro ⟨q, T1, hL⟩ ⟨hq0, hq1, hr, hT, hk⟩ ih
  show VV X G A _ _ _ hL _ _ 3 [(0, sref (ad j)), (1, .inl a), (2, sref (ad j)), (3, .inl b), (4, .inl q)] []
  refine v_iload (pc := 3) hO dX4_copy_3 rfl ?_
  refine v_sipush (pc := 5) hO dX4_copy_5 (by decide +kernel) ?_
  refine v_icmp_ge (pc := 8) (tgt := 37) hO dX4_copy_8 (by decide) (by first | assumption | exact hT _ | (unfold zR; omega)) (by first | assumption | exact hT _ | (unfold zR; omega)) (fun c8 => ?_) (fun c8 => ?_)
  · have hT2 : T1 = cpyM (Ar j) (Ar j) a b := (by funext z; rw [hk z]; unfold cpyM; have eq : q = 3934 := (by omega); subst eq; rfl)
    subst hT2
    exact v_vret hO dX4_copy_37 rfl (Nat.le_of_ble_eq_true rfl) (Nat.le_of_ble_eq_true rfl) ⟨rfl, hr⟩
  · refine v_aload_n (pc := 11) hO dX4_copy_11 rfl ?_
    refine v_sipush (pc := 12) hO dX4_copy_12 (by decide +kernel) ?_
    refine v_iload_n (pc := 15) hO dX4_copy_15 rfl ?_
    refine v_imul (pc := 16) hO dX4_copy_16 ?_
    refine v_iload (pc := 17) hO dX4_copy_17 rfl ?_
    refine v_iadd (pc := 19) hO dX4_copy_19 ?_
    refine v_aload_n (pc := 20) hO dX4_copy_20 rfl ?_
    refine v_sipush (pc := 21) hO dX4_copy_21 (by decide +kernel) ?_
    refine v_iload_n (pc := 24) hO dX4_copy_24 rfl ?_
    refine v_imul (pc := 25) hO dX4_copy_25 ?_
    refine v_iload (pc := 26) hO dX4_copy_26 rfl ?_
    refine v_iadd (pc := 28) hO dX4_copy_28 ?_
    refine r_iald (pc := 29) (w := (T1 (3934 * a + q))) (L := rlen j) hO hr j hj rfl (congrFun (rA_s _ _ _) _) (by omega) (by omega) dX4_copy_29 ?_
    refine r_iast (pc := 30) (Ar2 := rA Ar j (zupd T1 (3934 * b + q) ((T1 (3934 * a + q))))) (L := rlen j) hO hr hA j hj rfl ((congrArg (rA _ _) (by rw [rA_s])).trans (rA_rA _ _ _ _)) (by omega) (by omega) (by first | assumption | exact hT _ | (unfold zR; omega)) dX4_copy_30 (fun h hr => ?_)
    refine v_iinc (pc := 31) hO (lv' := [(4, .inl (q + 1)), (0, sref (ad j)), (1, .inl a), (2, sref (ad j)), (3, .inl b)]) dX4_copy_31 rfl (by decide) rfl ?_
    refine v_goto (pc := 34) (tgt := 3) hO dX4_copy_34 (by decide) ?_
    refine v_pick (lv2 := [(0, sref (ad j)), (1, .inl a), (2, sref (ad j)), (3, .inl b), (4, .inl ((q + 1)))]) [1, 2, 3, 4, 0] rfl ?_
    exact ih (q + 1, zupd T1 (3934 * b + q) ((T1 (3934 * a + q))), _) ⟨(by omega), (by omega), hr, (zupd_R hT (by first | assumption | exact hT _ | (unfold zR; omega))), (fun z => by
        by_cases e : z = 3934 * b + q
        · subst e; rw [zupd_s, if_pos (by omega)]; exact (congrArg T1 (by omega)).trans ((hk _).trans (if_neg (by omega)))
        · rw [zupd_n e, hk z]; (repeat' split) <;> first | rfl | omega)⟩ (by show (3934 - (q + 1)).toNat < (3934 - q).toNat; omega)
theorem yo_X4_begin : yOK yX4_begin 0 := by unfold yOK; exact ⟨by decide +kernel, by decide +kernel, by decide +kernel⟩
set_option maxRecDepth 100000 in
theorem m_begin {G : GT} {h : AH} {am : Nat} {ad : Nat → Nat} {nmf : Int → Option Nat} {S : Nat → Int} {Ar : Nat → Int → Int} {M : Int → Int} (hr : RefAt G h am ad nmf S (rA Ar 0 M)) {A : Nat → Prop} (hA : ∀ q, RA am ad q → A q)  : CC G yX4_begin cX4_begin 1 (none) ({ frames := 2, cells := 0, slots := 0, locals := 36 } : Room) A [sref am] h (fun v h1 => v = none ∧ RefAt G h1 am ad nmf S (rA (rA Ar 2 M) 0 M)) := by
  refine CC.of (by decide +kernel) [(0, sref am)] rfl (Nat.le_of_ble_eq_true rfl) (fun X hnm hO => ?_)
  have hMz : ∀ z, zR (M z) := fun z => hr.zA 0 z
  refine v_aload_n (pc := 0) hO dX4_begin_0 rfl ?_
  refine v_getf (pc := 1) (v := sref (ad 0)) hO cp_X4 0 q2125 hr.ob (by decide) rfl dX4_begin_1 ?_
  refine v_iconst (pc := 4) hO dX4_begin_4 ?_
  refine v_aload_n (pc := 5) hO dX4_begin_5 rfl ?_
  refine v_getf (pc := 6) (v := sref (ad 2)) hO cp_X4 2 q2127 hr.ob (by decide) rfl dX4_begin_6 ?_
  refine v_iconst (pc := 9) hO dX4_begin_9 ?_
  refine v_callS (pc := 10) hO (m_copy hr hA 0 2 0 0 ri_0 ri_2 (by decide) (by omega) (by omega) (by omega) (by omega) (by show _ ≤ ((3934 : Nat) : Int); omega) (by show _ ≤ ((3934 : Nat) : Int); omega)) (lw_S q2388 q2389 q117 q2390) yo_X4_copy rfl rfl (by decide) (by decide) (k2 := 0) (n2 := 0) (by decide) (by decide) (by decide) (by decide) dX4_begin_10 (fun va hv hp hf1 => ?_)
  obtain ⟨rfl, hr⟩ := hp
  refine r_ext hO hr hA 2 (g := M) ri_2 (fun z z0 z1 => by
    have z2 : z < ((3934 : Nat) : Int) := z1
    rw [rA_s]; unfold cpyM; rw [if_pos (by omega)]; exact congrArg M (by omega)) hMz (fun h hr => ?_)
  rw [rA_rA] at hr
  rw [rA_sw (by decide)] at hr
  exact v_vret hO dX4_begin_13 rfl (Nat.le_of_ble_eq_true rfl) (Nat.le_of_ble_eq_true rfl) ⟨rfl, hr⟩
theorem yo_X4_end : yOK yX4_end 0 := by unfold yOK; exact ⟨by decide +kernel, by decide +kernel, by decide +kernel⟩
set_option maxRecDepth 100000 in
theorem m_end {G : GT} {h : AH} {am : Nat} {ad : Nat → Nat} {nmf : Int → Option Nat} {S : Nat → Int} {Ar : Nat → Int → Int} {M : Int → Int} (hr : RefAt G h am ad nmf S (rA Ar 0 M)) {A : Nat → Prop} (hA : ∀ q, RA am ad q → A q) (D : Int → Int) (h2 : Ar 2 = D) (hD : ∀ z, zR (D z)) : CC G yX4_end cX4_end 1 (none) ({ frames := 2, cells := 0, slots := 0, locals := 36 } : Room) A [sref am] h (fun v h1 => v = none ∧ RefAt G h1 am ad nmf S (rA Ar 0 D)) := by
  refine CC.of (by decide +kernel) [(0, sref am)] rfl (Nat.le_of_ble_eq_true rfl) (fun X hnm hO => ?_)
  have hMz : ∀ z, zR (M z) := fun z => hr.zA 0 z
  refine v_aload_n (pc := 0) hO dX4_end_0 rfl ?_
  refine v_getf (pc := 1) (v := sref (ad 2)) hO cp_X4 2 q2127 hr.ob (by decide) rfl dX4_end_1 ?_
  refine v_iconst (pc := 4) hO dX4_end_4 ?_
  refine v_aload_n (pc := 5) hO dX4_end_5 rfl ?_
  refine v_getf (pc := 6) (v := sref (ad 0)) hO cp_X4 0 q2125 hr.ob (by decide) rfl dX4_end_6 ?_
  refine v_iconst (pc := 9) hO dX4_end_9 ?_
  refine v_callS (pc := 10) hO (m_copy hr hA 2 0 0 0 ri_2 ri_0 (by decide) (by omega) (by omega) (by omega) (by omega) (by show _ ≤ ((3934 : Nat) : Int); omega) (by show _ ≤ ((3934 : Nat) : Int); omega)) (lw_S q2388 q2389 q117 q2390) yo_X4_copy rfl rfl (by decide) (by decide) (k2 := 0) (n2 := 0) (by decide) (by decide) (by decide) (by decide) dX4_end_10 (fun va hv hp hf1 => ?_)
  obtain ⟨rfl, hr⟩ := hp
  refine r_ext hO hr hA 0 (g := D) ri_0 (fun z z0 z1 => by
    have z2 : z < ((3934 : Nat) : Int) := z1
    rw [rA_s]; unfold cpyM; rw [if_pos (by omega), rA_n (by decide), h2]; exact congrArg D (by omega)) hD (fun h hr => ?_)
  rw [rA_rA] at hr
  rw [rA_rA] at hr
  exact v_vret hO dX4_end_13 rfl (Nat.le_of_ble_eq_true rfl) (Nat.le_of_ble_eq_true rfl) ⟨rfl, hr⟩
theorem yo_X4_record : yOK yX4_record 0 := by unfold yOK; exact ⟨by decide +kernel, by decide +kernel, by decide +kernel⟩
set_option maxRecDepth 100000 in
theorem m_record {G : GT} {h : AH} {am : Nat} {ad : Nat → Nat} {nmf : Int → Option Nat} {S : Nat → Int} {Ar : Nat → Int → Int} {M : Int → Int} (hr : RefAt G h am ad nmf S (rA Ar 0 M)) {A : Nat → Prop} (hA : ∀ q, RA am ad q → A q) (rows : Int → Int → Int) (hn0 : 0 ≤ S 5) (hn1 : S 5 ≤ 10) (hh : Hst (Ar 4) (S 5) rows) : CC G yX4_record cX4_record 2 (none) ({ frames := 2, cells := 0, slots := 0, locals := 36 } : Room) A [sref am] h (fun v h1 => v = none ∧ ∃ Hh, RefAt G h1 am ad nmf (rS S 5 (recN (S 5))) (rA (rA Ar 4 Hh) 0 M) ∧ Hst Hh (recN (S 5)) (recR rows (S 5) M)) := by
  refine CC.of (by decide +kernel) [(0, sref am)] rfl (Nat.le_of_ble_eq_true rfl) (fun X hnm hO => ?_)
  have hMz : ∀ z, zR (M z) := fun z => hr.zA 0 z
  have hr : RefAt G h am ad nmf S (rA (rA Ar 4 (Ar 4)) 0 M) := (by rw [rA_id]; exact hr)
  refine v_aload_n (pc := 0) hO dX4_record_0 rfl ?_
  refine v_getf (pc := 1) (v := .inl (S 5)) hO cp_X4 5 q2130 hr.ob (by decide) rfl dX4_record_1 ?_
  refine v_bipush (pc := 4) hO dX4_record_4 (by decide +kernel) ?_
  refine v_icmp_ne (pc := 6) (tgt := 48) hO dX4_record_6 (by decide) (by first | assumption | exact hr.zA 0 _ | exact hr.zA 8 _ | exact hr.zA 9 _ | exact hr.zS _ | exact hMz _ | exact hMz1 _ | exact zw_R _ | (unfold zR; omega)) (by first | assumption | exact hr.zA 0 _ | exact hr.zA 8 _ | exact hr.zA 9 _ | exact hr.zS _ | exact hMz _ | exact hMz1 _ | exact zw_R _ | (unfold zR; omega)) (fun c6 => ?_) (fun c6 => ?_)
  · refine v_aload_n (pc := 48) hO dX4_record_48 rfl ?_
    refine v_getf (pc := 49) (v := sref (ad 0)) hO cp_X4 0 q2125 hr.ob (by decide) rfl dX4_record_49 ?_
    refine v_iconst (pc := 52) hO dX4_record_52 ?_
    refine v_aload_n (pc := 53) hO dX4_record_53 rfl ?_
    refine v_getf (pc := 54) (v := sref (ad 4)) hO cp_X4 4 q2129 hr.ob (by decide) rfl dX4_record_54 ?_
    refine v_aload_n (pc := 57) hO dX4_record_57 rfl ?_
    refine v_getf (pc := 58) (v := .inl (S 5)) hO cp_X4 5 q2130 hr.ob (by decide) rfl dX4_record_58 ?_
    refine v_callS (pc := 61) hO (m_copy hr hA 0 4 0 (S 5) ri_0 ri_4 (by decide) (by omega) (by omega) (by omega) (by omega) (by show _ ≤ ((3934 : Nat) : Int); omega) (by show _ ≤ ((39340 : Nat) : Int); omega)) (lw_S q2388 q2389 q117 q2390) yo_X4_copy rfl rfl (by decide) (by decide) (k2 := 0) (n2 := 0) (by decide) (by decide) (by decide) (by decide) dX4_record_61 (fun va hv hp hf1 => ?_)
    obtain ⟨rfl, hr⟩ := hp
    have e9 : rA ((rA (rA Ar 4 (Ar 4)) 0 M)) 4 (cpyM (((rA (rA Ar 4 (Ar 4)) 0 M)) 0) (((rA (rA Ar 4 (Ar 4)) 0 M)) 4) 0 (S 5)) = (rA (rA Ar 4 (cpyM M (Ar 4) 0 (S 5))) 0 M) := rA_up (by intro i e; simp only [rA, if_neg e]) rfl
    rw [e9] at hr
    refine v_aload_n (pc := 64) hO dX4_record_64 rfl ?_
    refine v_dup (pc := 65) hO dX4_record_65 rfl ?_
    refine v_getf (pc := 66) (v := .inl (S 5)) hO cp_X4 5 q2130 hr.ob (by decide) rfl dX4_record_66 ?_
    refine v_iconst (pc := 69) hO dX4_record_69 ?_
    refine v_iadd (pc := 70) hO dX4_record_70 ?_
    refine r_puti (pc := 71) (S2 := (rS S 5 (S 5 + 1))) hO hr hA 5 rn_5 q2130 rfl (by first | assumption | exact hr.zA 0 _ | exact hr.zA 8 _ | exact hr.zA 9 _ | exact hr.zS _ | exact hMz _ | exact hMz1 _ | exact zw_R _ | (unfold zR; omega)) dX4_record_71 (fun h hr => ?_)
    exact v_vret hO dX4_record_74 rfl (Nat.le_of_ble_eq_true rfl) (Nat.le_of_ble_eq_true rfl) ⟨rfl, _, (by rw [show recN (S 5) = S 5 + 1 from (by unfold recN; split <;> omega)]; exact hr), (fun q z q0 q1 z0 z1 => by
      have q2 : q ≤ S 5 := (by unfold recN at q1; split at q1 <;> omega)
      unfold cpyM recR
      rw [if_neg (show ¬ S 5 = 10 by omega)]
      by_cases e : q = S 5
      · subst e; rw [if_pos (by omega), if_pos rfl]; exact congrArg M (by omega)
      · rw [if_neg (by omega), if_neg e]; exact hh q z q0 (by omega) z0 z1)⟩
  · refine v_iconst (pc := 9) hO dX4_record_9 ?_
    refine v_istore_n (pc := 10) hO (lv' := [(1, .inl 1), (0, sref am)]) dX4_record_10 (by decide) rfl ?_
    refine v_pick (lv2 := [(0, sref am), (1, .inl 1)]) [1, 0] rfl ?_
    refine v_loop (σ := Int × (Int → Int) × AH) (fun (r, H1, hL) => 1 ≤ r ∧ r ≤ 10 ∧ RefAt G hL am ad nmf S (rA (rA Ar 4 H1) 0 M) ∧ (∀ z, zR (H1 z)) ∧ (∀ q z, 0 ≤ q → q < 10 → 0 ≤ z → z < 3934 → H1 (3934 * q + z) = if q < r - 1 then rows (q + 1) z else rows q z)) (fun (r, H1, hL) => (10 - r).toNat) (fun (r, H1, hL) => hL) (fun (r, H1, hL) => [(0, sref am), (1, .inl r)]) (1, Ar 4, h) ⟨Int.le_refl _, (by decide), hr, (hr.zA 4), (fun q z q0 q1 z0 z1 => (hh q z q0 (by omega) z0 z1).trans (if_neg (by omega)).symm)⟩ ?_
    rintro ⟨r, H1, hL⟩ ⟨hr0, hr1, hr, hH, hk⟩ ih
    show VV X G A _ _ _ hL _ _ 11 [(0, sref am), (1, .inl r)] []
    refine v_iload_n (pc := 11) hO dX4_record_11 rfl ?_
    refine v_bipush (pc := 12) hO dX4_record_12 (by decide +kernel) ?_
    refine v_icmp_ge (pc := 14) (tgt := 38) hO dX4_record_14 (by decide) (by first | assumption | exact hr.zA 0 _ | exact hr.zA 8 _ | exact hr.zA 9 _ | exact hr.zS _ | exact hMz _ | exact hMz1 _ | exact zw_R _ | (unfold zR; omega)) (by first | assumption | exact hr.zA 0 _ | exact hr.zA 8 _ | exact hr.zA 9 _ | exact hr.zS _ | exact hMz _ | exact hMz1 _ | exact zw_R _ | (unfold zR; omega)) (fun c14 => ?_) (fun c14 => ?_)
    · refine v_aload_n (pc := 38) hO dX4_record_38 rfl ?_
      refine v_dup (pc := 39) hO dX4_record_39 rfl ?_
      refine v_getf (pc := 40) (v := .inl (S 5)) hO cp_X4 5 q2130 hr.ob (by decide) rfl dX4_record_40 ?_
      refine v_iconst (pc := 43) hO dX4_record_43 ?_
      refine v_isub (pc := 44) hO dX4_record_44 ?_
      refine r_puti (pc := 45) (S2 := (rS S 5 (S 5 - 1))) hO hr hA 5 rn_5 q2130 rfl (by first | assumption | exact hr.zA 0 _ | exact hr.zA 8 _ | exact hr.zA 9 _ | exact hr.zS _ | exact hMz _ | exact hMz1 _ | exact zw_R _ | (unfold zR; omega)) dX4_record_45 (fun h hr => ?_)
      refine v_aload_n (pc := 48) hO dX4_record_48 rfl ?_
      refine v_getf (pc := 49) (v := sref (ad 0)) hO cp_X4 0 q2125 hr.ob (by decide) rfl dX4_record_49 ?_
      refine v_iconst (pc := 52) hO dX4_record_52 ?_
      refine v_aload_n (pc := 53) hO dX4_record_53 rfl ?_
      refine v_getf (pc := 54) (v := sref (ad 4)) hO cp_X4 4 q2129 hr.ob (by decide) rfl dX4_record_54 ?_
      refine v_aload_n (pc := 57) hO dX4_record_57 rfl ?_
      refine v_getf (pc := 58) (v := .inl (S 5 - 1)) hO cp_X4 5 q2130 hr.ob (by decide) rfl dX4_record_58 ?_
      refine v_callS (pc := 61) hO (m_copy hr hA 0 4 0 (S 5 - 1) ri_0 ri_4 (by decide) (by omega) (by omega) (by omega) (by omega) (by show _ ≤ ((3934 : Nat) : Int); omega) (by show _ ≤ ((39340 : Nat) : Int); omega)) (lw_S q2388 q2389 q117 q2390) yo_X4_copy rfl rfl (by decide) (by decide) (k2 := 0) (n2 := 0) (by decide) (by decide) (by decide) (by decide) dX4_record_61 (fun va hv hp hf1 => ?_)
      obtain ⟨rfl, hr⟩ := hp
      have e9 : rA ((rA (rA Ar 4 H1) 0 M)) 4 (cpyM (((rA (rA Ar 4 H1) 0 M)) 0) (((rA (rA Ar 4 H1) 0 M)) 4) 0 (S 5 - 1)) = (rA (rA Ar 4 (cpyM M H1 0 (S 5 - 1))) 0 M) := rA_up (by intro i e; simp only [rA, if_neg e]) rfl
      rw [e9] at hr
      refine v_aload_n (pc := 64) hO dX4_record_64 rfl ?_
      refine v_dup (pc := 65) hO dX4_record_65 rfl ?_
      refine v_getf (pc := 66) (v := .inl (S 5 - 1)) hO cp_X4 5 q2130 hr.ob (by decide) rfl dX4_record_66 ?_
      refine v_iconst (pc := 69) hO dX4_record_69 ?_
      refine v_iadd (pc := 70) hO dX4_record_70 ?_
      refine r_puti (pc := 71) (S2 := (rS S 5 (S 5 - 1 + 1))) hO hr hA 5 rn_5 q2130 (rS_rS _ _ _ _) (by first | assumption | exact hr.zA 0 _ | exact hr.zA 8 _ | exact hr.zA 9 _ | exact hr.zS _ | exact hMz _ | exact hMz1 _ | exact zw_R _ | (unfold zR; omega)) dX4_record_71 (fun h hr => ?_)
      exact v_vret hO dX4_record_74 rfl (Nat.le_of_ble_eq_true rfl) (Nat.le_of_ble_eq_true rfl) ⟨rfl, _, (by rw [show recN (S 5) = S 5 - 1 + 1 from (by unfold recN; split <;> omega)]; exact hr), (fun q z q0 q1 z0 z1 => by
      have q2 : q < 10 := (by unfold recN at q1; split at q1 <;> omega)
      unfold cpyM recR
      rw [if_pos (show S 5 = 10 by omega)]
      by_cases e : q = 9
      · subst e; rw [if_pos (by omega), if_pos rfl]; exact congrArg M (by omega)
      · rw [if_neg (by omega), if_neg e, hk q z q0 q2 z0 z1, if_pos (by omega)])⟩
    · refine v_aload_n (pc := 17) hO dX4_record_17 rfl ?_
      refine v_getf (pc := 18) (v := sref (ad 4)) hO cp_X4 4 q2129 hr.ob (by decide) rfl dX4_record_18 ?_
      refine v_iload_n (pc := 21) hO dX4_record_21 rfl ?_
      refine v_aload_n (pc := 22) hO dX4_record_22 rfl ?_
      refine v_getf (pc := 23) (v := sref (ad 4)) hO cp_X4 4 q2129 hr.ob (by decide) rfl dX4_record_23 ?_
      refine v_iload_n (pc := 26) hO dX4_record_26 rfl ?_
      refine v_iconst (pc := 27) hO dX4_record_27 ?_
      refine v_isub (pc := 28) hO dX4_record_28 ?_
      refine v_callS (pc := 29) hO (m_copyH hr hA 4 r (r - 1) ri_4 (by omega) (by omega) (by omega) (by omega) (by omega) (by show _ ≤ ((39340 : Nat) : Int); omega) (by show _ ≤ ((39340 : Nat) : Int); omega)) (lw_S q2388 q2389 q117 q2390) yo_X4_copy rfl rfl (by decide) (by decide) (k2 := 0) (n2 := 0) (by decide) (by decide) (by decide) (by decide) dX4_record_29 (fun va hv hp hf1 => ?_)
      obtain ⟨rfl, hr⟩ := hp
      have e9 : rA ((rA (rA Ar 4 H1) 0 M)) 4 (cpyM (((rA (rA Ar 4 H1) 0 M)) 4) (((rA (rA Ar 4 H1) 0 M)) 4) r (r - 1)) = (rA (rA Ar 4 (cpyM H1 H1 r (r - 1))) 0 M) := rA_up (by intro i e; simp only [rA, if_neg e]) rfl
      rw [e9] at hr
      refine v_iinc (pc := 32) hO (lv' := [(1, .inl (r + 1)), (0, sref am)]) dX4_record_32 rfl (by decide) rfl ?_
      refine v_goto (pc := 35) (tgt := 11) hO dX4_record_35 (by decide) ?_
      refine v_pick (lv2 := [(0, sref am), (1, .inl ((r + 1)))]) [1, 0] rfl ?_
      exact ih (r + 1, cpyM H1 H1 r (r - 1), _) ⟨(by omega), (by omega), hr, (hr.zA 4), (fun q z q0 q1 z0 z1 => by
        unfold cpyM
        by_cases e : q = r - 1
        · subst e
          rw [if_pos (by omega), if_pos (by omega), show 3934 * r + (3934 * (r - 1) + z - 3934 * (r - 1)) = 3934 * r + z by omega, hk r z (by omega) (by omega) z0 z1, if_neg (by omega)]
          exact congrFun (congrArg rows (by omega)) z
        · rw [if_neg (by omega), hk q z q0 q1 z0 z1]
          (repeat' split) <;> first | rfl | omega)⟩ (by show (10 - (r + 1)).toNat < (10 - r).toNat; omega)
