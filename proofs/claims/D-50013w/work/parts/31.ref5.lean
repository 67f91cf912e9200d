/-! THE REFERENCE, 4: what there is (public queries) -/
set_option maxRecDepth 100000
abbrev cellP (M : Int → Int) (x y : Int) : Prop := 0 ≤ x ∧ x ≤ M 0 - 1 ∧ 0 ≤ y ∧ y ≤ M 1 - 1
def staF (M : Int → Int) (o t : Int) (e s : Int) : Int := if M (544 + 3 * e + 1) = o ∧ M (544 + 3 * e) < t then M (544 + 3 * e + 2) else s
def staM (M : Int → Int) (o t : Int) : Int := itI (staF M o t) (M 7 - 0).toNat 0 (if M (64 + 10 * o + 4) < t then 0 else -1)
abbrev crsP (M : Int → Int) (a b : Int) : Bool := decide ((M (64 + 10 * a + 5) ≠ -1 ∧ M (64 + 10 * b + 5) ≠ -1) ∧ M (64 + 10 * a + 0) = M (64 + 10 * b + 0) ∧ M (64 + 10 * b + 5) < M (64 + 10 * a + 5))
def crs1 (M : Int → Int) (a : Int) : Int := cntI (crsP M a) (M 4 - (a + 1)).toNat (a + 1)
def crsM (M : Int → Int) : Int := sumI (crs1 M) (M 4 - 0).toNat 0
def dstM (M : Int → Int) (x y tx ty : Int) : Int := if layM M tx ty (12 * y + x) = 1000 then -1 else layM M tx ty (12 * y + x)
def sttD (M : Int → Int) (x y tx ty : Int) : Int := stpM M (layM M tx ty) x y
def sttM (M : Int → Int) (x y tx ty : Int) : Int := if ¬ (M (784 + 12 * y + x) = 0 ∧ M (784 + 12 * ty + tx) = 0) then -1 else if layM M tx ty (12 * y + x) = 0 then 100 * y + x else if sttD M x y tx ty = -1 then -1 else 100 * (y + dY (sttD M x y tx ty)) + x + dX (sttD M x y tx ty)
theorem yo_X4_raise : yOK yX4_raise 1 := by unfold yOK; exact ⟨by decide +kernel, by decide +kernel, by decide +kernel⟩
set_option maxRecDepth 100000 in
theorem m_raise {G : GT} {h : AH} {am : Nat} {ad : Nat → Nat} {nmf : Int → Option Nat} {S : Nat → Int} {Ar : Nat → Int → Int} {M : Int → Int} (hr : RefAt G h am ad nmf S (rA Ar 0 M)) {A : Nat → Prop} (hA : ∀ q, RA am ad q → A q) (a : Int) (ha : zR a) : CC G yX4_raise cX4_raise 2 (some .int) ({ frames := 1, cells := 0, slots := 0, locals := 12 } : Room) A [sref am, .inl a] h (fun v h1 => v = some (.inl 0) ∧ RefAt G h1 am ad nmf (rS S 6 a) (rA Ar 0 M)) := by
  refine CC.of (by decide +kernel) [(0, sref am), (1, .inl a)] rfl (Nat.le_of_ble_eq_true rfl) (fun X hnm hO => ?_)
  have hMz : ∀ z, zR (M z) := fun z => hr.zA 0 z
  refine v_aload_n (pc := 0) hO dX4_raise_0 rfl ?_
  refine v_iload_n (pc := 1) hO dX4_raise_1 rfl ?_
  refine r_puti (pc := 2) (S2 := (rS S 6 a)) hO hr hA 6 rn_6 q2131 rfl (by first | assumption | exact hr.zA 0 _ | exact hr.zA 8 _ | exact hr.zA 9 _ | exact hr.zS _ | exact hMz _ | exact hMz1 _ | exact zw_R _ | (unfold zR; omega)) dX4_raise_2 (fun h hr => ?_)
  refine v_iconst (pc := 5) hO dX4_raise_5 ?_
  exact v_iret hO dX4_raise_6 rfl (Nat.le_of_ble_eq_true rfl) (Nat.le_of_ble_eq_true rfl) ⟨rfl, hr⟩
theorem yo_X4_size : yOK yX4_size 1 := by unfold yOK; exact ⟨by decide +kernel, by decide +kernel, by decide +kernel⟩
set_option maxRecDepth 100000 in
theorem m_size {G : GT} {h : AH} {am : Nat} {ad : Nat → Nat} {nmf : Int → Option Nat} {S : Nat → Int} {Ar : Nat → Int → Int} {M : Int → Int} (hr : RefAt G h am ad nmf S (rA Ar 0 M)) {A : Nat → Prop} (hA : ∀ q, RA am ad q → A q) (a : Int) (za : zR a) (hB : Bq M)  : CC G yX4_size cX4_size 2 (some .int) ({ frames := 2, cells := 0, slots := 0, locals := 34 } : Room) A [sref am, .inl a] h (fun v h1 => ((inb a 0 11) ∧ v = some (.inl (M a)) ∧ RefAt G h1 am ad nmf (rS S 6 0) (rA Ar 0 M)) ∨ (¬ (inb a 0 11) ∧ v = some (.inl 0) ∧ RefAt G h1 am ad nmf (rS S 6 1) (rA Ar 0 M))) := by
  refine CC.of (by decide +kernel) [(0, sref am), (1, .inl a)] rfl (Nat.le_of_ble_eq_true rfl) (fun X hnm hO => ?_)
  have hMz : ∀ z, zR (M z) := fun z => hr.zA 0 z
  have hd := hB.hd
  have h2 := hB.1.2.1
  have h4 := hB.h4
  have h5 := hB.1.2.2.2.1
  have h8 := hB.1.2.2.2.2.1
  have hpics := hB.pics
  have h3 := hpics.1
  have h7 := hB.h7
  refine v_aload_n (pc := 0) hO dX4_size_0 rfl ?_
  refine v_iconst (pc := 1) hO dX4_size_1 ?_
  refine r_puti (pc := 2) (S2 := (rS S 6 0)) hO hr hA 6 rn_6 q2131 rfl (by first | assumption | exact hr.zA 0 _ | exact hr.zA 8 _ | exact hr.zA 9 _ | exact hr.zS _ | exact hMz _ | exact hMz1 _ | exact zw_R _ | (unfold zR; omega)) dX4_size_2 (fun h hr => ?_)
  refine v_iload_n (pc := 5) hO dX4_size_5 rfl ?_
  refine v_iconst (pc := 6) hO dX4_size_6 ?_
  refine v_bipush (pc := 7) hO dX4_size_7 (by decide +kernel) ?_
  refine v_callS (pc := 9) hO (m_inRange a 0 11 (by first | assumption | exact hr.zA 0 _ | exact hr.zA 8 _ | exact hr.zA 9 _ | exact hr.zS _ | exact hMz _ | exact hMz1 _ | (unfold zR; omega)) (by first | assumption | exact hr.zA 0 _ | exact hr.zA 8 _ | exact hr.zA 9 _ | exact hr.zS _ | exact hMz _ | exact hMz1 _ | (unfold zR; omega)) (by first | assumption | exact hr.zA 0 _ | exact hr.zA 8 _ | exact hr.zA 9 _ | exact hr.zS _ | exact hMz _ | exact hMz1 _ | (unfold zR; omega))) (lw_S q2219 q2220 q117 q2221) yo_X4_inRange rfl rfl (by decide) (by decide) (k2 := 0) (n2 := 0) (by decide) (by decide) (by decide) (by decide) dX4_size_9 (fun va hv hp hf1 => ?_)
  obtain ⟨rfl, rfl⟩ := hp
  refine v_ifb_eq (pc := 12) (tgt := 24) hO dX4_size_12 (by decide) (fun c12 => ?_) (fun c12 => ?_)
  · refine v_aload_n (pc := 24) hO dX4_size_24 rfl ?_
    refine v_iconst (pc := 25) hO dX4_size_25 ?_
    refine v_callV (pc := 26) (b := am) hO cp_X4 hr.ob (m_raise hr hA 1 (by unfold zR; omega)) (lw_V q2222 q2224 qs34 q117 q2225) yo_X4_raise rfl rfl rfl (by decide) (by decide) (k2 := 0) (n2 := 0) (by decide) (by decide) (by decide) (by decide) dX4_size_26 (fun va hv hp hf1 => ?_)
    obtain ⟨rfl, hr⟩ := hp
    rw [rS_rS] at hr
    exact v_iret hO dX4_size_29 rfl (Nat.le_of_ble_eq_true rfl) (Nat.le_of_ble_eq_true rfl) (Or.inr ⟨by omega, (congrArg (fun z => some (Sum.inl z)) (by (repeat' split) <;> first | rfl | omega)), hr⟩)
  · refine v_aload_n (pc := 15) hO dX4_size_15 rfl ?_
    refine v_getf (pc := 16) (v := sref (ad 0)) hO cp_X4 0 q2125 hr.ob (by decide) rfl dX4_size_16 ?_
    refine v_iload_n (pc := 19) hO dX4_size_19 rfl ?_
    refine r_iald (pc := 20) (w := M a) (L := 3934) hO hr 0 ri_0 rfl rfl (by omega) (by omega) dX4_size_20 ?_
    refine v_goto (pc := 21) (tgt := 29) hO dX4_size_21 (by decide) ?_
    exact v_iret hO dX4_size_29 rfl (Nat.le_of_ble_eq_true rfl) (Nat.le_of_ble_eq_true rfl) (Or.inl ⟨by omega, (congrArg (fun z => some (Sum.inl z)) (by (repeat' split) <;> first | rfl | omega)), hr⟩)
theorem yo_X4_unit : yOK yX4_unit 2 := by unfold yOK; exact ⟨by decide +kernel, by decide +kernel, by decide +kernel⟩
set_option maxRecDepth 100000 in
theorem m_unit {G : GT} {h : AH} {am : Nat} {ad : Nat → Nat} {nmf : Int → Option Nat} {S : Nat → Int} {Ar : Nat → Int → Int} {M : Int → Int} (hr : RefAt G h am ad nmf S (rA Ar 0 M)) {A : Nat → Prop} (hA : ∀ q, RA am ad q → A q) (a b : Int) (za : zR a) (zb : zR b) (hB : Bq M)  : CC G yX4_unit cX4_unit 3 (some .int) ({ frames := 4, cells := 0, slots := 0, locals := 78 } : Room) A [sref am, .inl a, .inl b] h (fun v h1 => ((inb a 0 (M 2 - 1) ∧ inb b 0 5) ∧ v = some (.inl (if b < 4 then M (12 + 4 * a + b) else if b = 4 then obyM M a else onwM M a)) ∧ RefAt G h1 am ad nmf (rS S 6 0) (rA Ar 0 M)) ∨ (¬ (inb a 0 (M 2 - 1) ∧ inb b 0 5) ∧ v = some (.inl 0) ∧ RefAt G h1 am ad nmf (rS S 6 1) (rA Ar 0 M))) := by
  refine CC.of (by decide +kernel) [(0, sref am), (1, .inl a), (2, .inl b)] rfl (Nat.le_of_ble_eq_true rfl) (fun X hnm hO => ?_)
  have hMz : ∀ z, zR (M z) := fun z => hr.zA 0 z
  have hd := hB.hd
  have h2 := hB.1.2.1
  have h4 := hB.h4
  have h5 := hB.1.2.2.2.1
  have h8 := hB.1.2.2.2.2.1
  have hpics := hB.pics
  have h3 := hpics.1
  have h7 := hB.h7
  refine v_aload_n (pc := 0) hO dX4_unit_0 rfl ?_
  refine v_iconst (pc := 1) hO dX4_unit_1 ?_
  refine r_puti (pc := 2) (S2 := (rS S 6 0)) hO hr hA 6 rn_6 q2131 rfl (by first | assumption | exact hr.zA 0 _ | exact hr.zA 8 _ | exact hr.zA 9 _ | exact hr.zS _ | exact hMz _ | exact hMz1 _ | exact zw_R _ | (unfold zR; omega)) dX4_unit_2 (fun h hr => ?_)
  refine v_aload_n (pc := 5) hO dX4_unit_5 rfl ?_
  refine v_iload_n (pc := 6) hO dX4_unit_6 rfl ?_
  refine v_callV (pc := 7) (b := am) hO cp_X4 hr.ob (m_isUnit hr a (by first | assumption | exact hr.zA 0 _ | exact hr.zA 8 _ | exact hr.zA 9 _ | exact hr.zS _ | exact hMz _ | exact hMz1 _ | (unfold zR; omega)) (by omega)) (lw_V q2230 q2232 qs35 q117 q2233) yo_X4_isUnit rfl rfl rfl (by decide) (by decide) (k2 := 0) (n2 := 0) (by decide) (by decide) (by decide) (by decide) dX4_unit_7 (fun va hv hp hf1 => ?_)
  obtain ⟨rfl, rfl⟩ := hp
  refine v_ifb_eq (pc := 10) (tgt := 22) hO dX4_unit_10 (by decide) (fun c10 => ?_) (fun c10 => ?_)
  · refine v_aload_n (pc := 22) hO dX4_unit_22 rfl ?_
    refine v_iconst (pc := 23) hO dX4_unit_23 ?_
    refine v_callV (pc := 24) (b := am) hO cp_X4 hr.ob (m_raise hr hA 1 (by unfold zR; omega)) (lw_V q2222 q2224 qs34 q117 q2225) yo_X4_raise rfl rfl rfl (by decide) (by decide) (k2 := 0) (n2 := 0) (by decide) (by decide) (by decide) (by decide) dX4_unit_24 (fun va hv hp hf1 => ?_)
    obtain ⟨rfl, hr⟩ := hp
    rw [rS_rS] at hr
    exact v_iret hO dX4_unit_27 rfl (Nat.le_of_ble_eq_true rfl) (Nat.le_of_ble_eq_true rfl) (Or.inr ⟨by omega, (congrArg (fun z => some (Sum.inl z)) (by (repeat' split) <;> first | rfl | omega)), hr⟩)
  · refine v_iload_n (pc := 13) hO dX4_unit_13 rfl ?_
    refine v_iconst (pc := 14) hO dX4_unit_14 ?_
    refine v_iconst (pc := 15) hO dX4_unit_15 ?_
    refine v_callS (pc := 16) hO (m_inRange b 0 5 (by first | assumption | exact hr.zA 0 _ | exact hr.zA 8 _ | exact hr.zA 9 _ | exact hr.zS _ | exact hMz _ | exact hMz1 _ | (unfold zR; omega)) (by first | assumption | exact hr.zA 0 _ | exact hr.zA 8 _ | exact hr.zA 9 _ | exact hr.zS _ | exact hMz _ | exact hMz1 _ | (unfold zR; omega)) (by first | assumption | exact hr.zA 0 _ | exact hr.zA 8 _ | exact hr.zA 9 _ | exact hr.zS _ | exact hMz _ | exact hMz1 _ | (unfold zR; omega))) (lw_S q2219 q2220 q117 q2221) yo_X4_inRange rfl rfl (by decide) (by decide) (k2 := 0) (n2 := 0) (by decide) (by decide) (by decide) (by decide) dX4_unit_16 (fun va hv hp hf1 => ?_)
    obtain ⟨rfl, rfl⟩ := hp
    refine v_ifb_ne (pc := 19) (tgt := 28) hO dX4_unit_19 (by decide) (fun c19 => ?_) (fun c19 => ?_)
    · refine v_iload_n (pc := 28) hO dX4_unit_28 rfl ?_
      refine v_iconst (pc := 29) hO dX4_unit_29 ?_
      refine v_icmp_ge (pc := 30) (tgt := 42) hO dX4_unit_30 (by decide) (by first | assumption | exact hr.zA 0 _ | exact hr.zA 8 _ | exact hr.zA 9 _ | exact hr.zS _ | exact hMz _ | exact hMz1 _ | exact zw_R _ | (unfold zR; omega)) (by first | assumption | exact hr.zA 0 _ | exact hr.zA 8 _ | exact hr.zA 9 _ | exact hr.zS _ | exact hMz _ | exact hMz1 _ | exact zw_R _ | (unfold zR; omega)) (fun c30 => ?_) (fun c30 => ?_)
      · refine v_iload_n (pc := 42) hO dX4_unit_42 rfl ?_
        refine v_iconst (pc := 43) hO dX4_unit_43 ?_
        refine v_icmp_ne (pc := 44) (tgt := 55) hO dX4_unit_44 (by decide) (by first | assumption | exact hr.zA 0 _ | exact hr.zA 8 _ | exact hr.zA 9 _ | exact hr.zS _ | exact hMz _ | exact hMz1 _ | exact zw_R _ | (unfold zR; omega)) (by first | assumption | exact hr.zA 0 _ | exact hr.zA 8 _ | exact hr.zA 9 _ | exact hr.zS _ | exact hMz _ | exact hMz1 _ | exact zw_R _ | (unfold zR; omega)) (fun c44 => ?_) (fun c44 => ?_)
        · refine v_aload_n (pc := 55) hO dX4_unit_55 rfl ?_
          refine v_iload_n (pc := 56) hO dX4_unit_56 rfl ?_
          refine v_callV (pc := 57) (b := am) hO cp_X4 hr.ob (m_onWayTo hr a (by first | assumption | exact hr.zA 0 _ | exact hr.zA 8 _ | exact hr.zA 9 _ | exact hr.zS _ | exact hMz _ | exact hMz1 _ | (unfold zR; omega)) (by omega)) (lw_V q2252 q2254 qs39 q117 q2255) yo_X4_onWayTo rfl rfl rfl (by decide) (by decide) (k2 := 0) (n2 := 0) (by decide) (by decide) (by decide) (by decide) dX4_unit_57 (fun va hv hp hf1 => ?_)
          obtain ⟨rfl, rfl⟩ := hp
          exact v_iret hO dX4_unit_60 rfl (Nat.le_of_ble_eq_true rfl) (Nat.le_of_ble_eq_true rfl) (Or.inl ⟨by omega, (congrArg (fun z => some (Sum.inl z)) (by (repeat' split) <;> first | rfl | omega)), hr⟩)
        · refine v_aload_n (pc := 47) hO dX4_unit_47 rfl ?_
          refine v_iload_n (pc := 48) hO dX4_unit_48 rfl ?_
          refine v_callV (pc := 49) (b := am) hO cp_X4 hr.ob (m_obeyedBy hr a (by first | assumption | exact hr.zA 0 _ | exact hr.zA 8 _ | exact hr.zA 9 _ | exact hr.zS _ | exact hMz _ | exact hMz1 _ | (unfold zR; omega)) (by omega)) (lw_V q2241 q2243 qs37 q117 q2244) yo_X4_obeyedBy rfl rfl rfl (by decide) (by decide) (k2 := 0) (n2 := 0) (by decide) (by decide) (by decide) (by decide) dX4_unit_49 (fun va hv hp hf1 => ?_)
          obtain ⟨rfl, rfl⟩ := hp
          refine v_goto (pc := 52) (tgt := 60) hO dX4_unit_52 (by decide) ?_
          exact v_iret hO dX4_unit_60 rfl (Nat.le_of_ble_eq_true rfl) (Nat.le_of_ble_eq_true rfl) (Or.inl ⟨by omega, (congrArg (fun z => some (Sum.inl z)) (by (repeat' split) <;> first | rfl | omega)), hr⟩)
      · refine v_aload_n (pc := 33) hO dX4_unit_33 rfl ?_
        refine v_iload_n (pc := 34) hO dX4_unit_34 rfl ?_
        refine v_iload_n (pc := 35) hO dX4_unit_35 rfl ?_
        refine v_callV (pc := 36) (b := am) hO cp_X4 hr.ob (m_ofUnit hr a b (by omega) (by omega)) (lw_V q2234 q2236 qs36 q117 q2237) yo_X4_ofUnit rfl rfl rfl (by decide) (by decide) (k2 := 0) (n2 := 0) (by decide) (by decide) (by decide) (by decide) dX4_unit_36 (fun va hv hp hf1 => ?_)
        obtain ⟨rfl, rfl⟩ := hp
        refine v_goto (pc := 39) (tgt := 60) hO dX4_unit_39 (by decide) ?_
        exact v_iret hO dX4_unit_60 rfl (Nat.le_of_ble_eq_true rfl) (Nat.le_of_ble_eq_true rfl) (Or.inl ⟨by omega, (congrArg (fun z => some (Sum.inl z)) (by (repeat' split) <;> first | rfl | omega)), hr⟩)
    · refine v_aload_n (pc := 22) hO dX4_unit_22 rfl ?_
      refine v_iconst (pc := 23) hO dX4_unit_23 ?_
      refine v_callV (pc := 24) (b := am) hO cp_X4 hr.ob (m_raise hr hA 1 (by unfold zR; omega)) (lw_V q2222 q2224 qs34 q117 q2225) yo_X4_raise rfl rfl rfl (by decide) (by decide) (k2 := 0) (n2 := 0) (by decide) (by decide) (by decide) (by decide) dX4_unit_24 (fun va hv hp hf1 => ?_)
      obtain ⟨rfl, hr⟩ := hp
      rw [rS_rS] at hr
      exact v_iret hO dX4_unit_27 rfl (Nat.le_of_ble_eq_true rfl) (Nat.le_of_ble_eq_true rfl) (Or.inr ⟨by omega, (congrArg (fun z => some (Sum.inl z)) (by (repeat' split) <;> first | rfl | omega)), hr⟩)
theorem yo_X4_picket : yOK yX4_picket 2 := by unfold yOK; exact ⟨by decide +kernel, by decide +kernel, by decide +kernel⟩
set_option maxRecDepth 100000 in
theorem m_picket {G : GT} {h : AH} {am : Nat} {ad : Nat → Nat} {nmf : Int → Option Nat} {S : Nat → Int} {Ar : Nat → Int → Int} {M : Int → Int} (hr : RefAt G h am ad nmf S (rA Ar 0 M)) {A : Nat → Prop} (hA : ∀ q, RA am ad q → A q) (a b : Int) (za : zR a) (zb : zR b) (hB : Bq M)  : CC G yX4_picket cX4_picket 3 (some .int) ({ frames := 4, cells := 0, slots := 0, locals := 77 } : Room) A [sref am, .inl a, .inl b] h (fun v h1 => ((inb a 0 (M 3 - 1) ∧ inb b 0 7) ∧ v = some (.inl (if b = 6 then (if watP M a (M 5) then 1 else 0) else if b = 7 then M (36 + 7 * a + 6) else M (36 + 7 * a + b))) ∧ RefAt G h1 am ad nmf (rS S 6 0) (rA Ar 0 M)) ∨ (¬ (inb a 0 (M 3 - 1) ∧ inb b 0 7) ∧ v = some (.inl 0) ∧ RefAt G h1 am ad nmf (rS S 6 1) (rA Ar 0 M))) := by
  refine CC.of (by decide +kernel) [(0, sref am), (1, .inl a), (2, .inl b)] rfl (Nat.le_of_ble_eq_true rfl) (fun X hnm hO => ?_)
  have hMz : ∀ z, zR (M z) := fun z => hr.zA 0 z
  have hd := hB.hd
  have h2 := hB.1.2.1
  have h4 := hB.h4
  have h5 := hB.1.2.2.2.1
  have h8 := hB.1.2.2.2.2.1
  have hpics := hB.pics
  have h3 := hpics.1
  have h7 := hB.h7
  refine v_aload_n (pc := 0) hO dX4_picket_0 rfl ?_
  refine v_iconst (pc := 1) hO dX4_picket_1 ?_
  refine r_puti (pc := 2) (S2 := (rS S 6 0)) hO hr hA 6 rn_6 q2131 rfl (by first | assumption | exact hr.zA 0 _ | exact hr.zA 8 _ | exact hr.zA 9 _ | exact hr.zS _ | exact hMz _ | exact hMz1 _ | exact zw_R _ | (unfold zR; omega)) dX4_picket_2 (fun h hr => ?_)
  refine v_aload_n (pc := 5) hO dX4_picket_5 rfl ?_
  refine v_iload_n (pc := 6) hO dX4_picket_6 rfl ?_
  refine v_callV (pc := 7) (b := am) hO cp_X4 hr.ob (m_isPicket hr a (by first | assumption | exact hr.zA 0 _ | exact hr.zA 8 _ | exact hr.zA 9 _ | exact hr.zS _ | exact hMz _ | exact hMz1 _ | (unfold zR; omega)) (by omega)) (lw_V q2260 q2262 qs40 q117 q2263) yo_X4_isPicket rfl rfl rfl (by decide) (by decide) (k2 := 0) (n2 := 0) (by decide) (by decide) (by decide) (by decide) dX4_picket_7 (fun va hv hp hf1 => ?_)
  obtain ⟨rfl, rfl⟩ := hp
  refine v_ifb_eq (pc := 10) (tgt := 23) hO dX4_picket_10 (by decide) (fun c10 => ?_) (fun c10 => ?_)
  · refine v_aload_n (pc := 23) hO dX4_picket_23 rfl ?_
    refine v_iconst (pc := 24) hO dX4_picket_24 ?_
    refine v_callV (pc := 25) (b := am) hO cp_X4 hr.ob (m_raise hr hA 1 (by unfold zR; omega)) (lw_V q2222 q2224 qs34 q117 q2225) yo_X4_raise rfl rfl rfl (by decide) (by decide) (k2 := 0) (n2 := 0) (by decide) (by decide) (by decide) (by decide) dX4_picket_25 (fun va hv hp hf1 => ?_)
    obtain ⟨rfl, hr⟩ := hp
    rw [rS_rS] at hr
    exact v_iret hO dX4_picket_28 rfl (Nat.le_of_ble_eq_true rfl) (Nat.le_of_ble_eq_true rfl) (Or.inr ⟨by omega, (congrArg (fun z => some (Sum.inl z)) (by (repeat' split) <;> first | rfl | omega)), hr⟩)
  · refine v_iload_n (pc := 13) hO dX4_picket_13 rfl ?_
    refine v_iconst (pc := 14) hO dX4_picket_14 ?_
    refine v_bipush (pc := 15) hO dX4_picket_15 (by decide +kernel) ?_
    refine v_callS (pc := 17) hO (m_inRange b 0 7 (by first | assumption | exact hr.zA 0 _ | exact hr.zA 8 _ | exact hr.zA 9 _ | exact hr.zS _ | exact hMz _ | exact hMz1 _ | (unfold zR; omega)) (by first | assumption | exact hr.zA 0 _ | exact hr.zA 8 _ | exact hr.zA 9 _ | exact hr.zS _ | exact hMz _ | exact hMz1 _ | (unfold zR; omega)) (by first | assumption | exact hr.zA 0 _ | exact hr.zA 8 _ | exact hr.zA 9 _ | exact hr.zS _ | exact hMz _ | exact hMz1 _ | (unfold zR; omega))) (lw_S q2219 q2220 q117 q2221) yo_X4_inRange rfl rfl (by decide) (by decide) (k2 := 0) (n2 := 0) (by decide) (by decide) (by decide) (by decide) dX4_picket_17 (fun va hv hp hf1 => ?_)
    obtain ⟨rfl, rfl⟩ := hp
    refine v_ifb_ne (pc := 20) (tgt := 29) hO dX4_picket_20 (by decide) (fun c20 => ?_) (fun c20 => ?_)
    · refine v_iload_n (pc := 29) hO dX4_picket_29 rfl ?_
      refine v_bipush (pc := 30) hO dX4_picket_30 (by decide +kernel) ?_
      refine v_icmp_ne (pc := 32) (tgt := 53) hO dX4_picket_32 (by decide) (by first | assumption | exact hr.zA 0 _ | exact hr.zA 8 _ | exact hr.zA 9 _ | exact hr.zS _ | exact hMz _ | exact hMz1 _ | exact zw_R _ | (unfold zR; omega)) (by first | assumption | exact hr.zA 0 _ | exact hr.zA 8 _ | exact hr.zA 9 _ | exact hr.zS _ | exact hMz _ | exact hMz1 _ | exact zw_R _ | (unfold zR; omega)) (fun c32 => ?_) (fun c32 => ?_)
      · refine v_aload_n (pc := 53) hO dX4_picket_53 rfl ?_
        refine v_iload_n (pc := 54) hO dX4_picket_54 rfl ?_
        refine v_iload_n (pc := 55) hO dX4_picket_55 rfl ?_
        refine v_bipush (pc := 56) hO dX4_picket_56 (by decide +kernel) ?_
        refine v_icmp_ne (pc := 58) (tgt := 66) hO dX4_picket_58 (by decide) (by first | assumption | exact hr.zA 0 _ | exact hr.zA 8 _ | exact hr.zA 9 _ | exact hr.zS _ | exact hMz _ | exact hMz1 _ | exact zw_R _ | (unfold zR; omega)) (by first | assumption | exact hr.zA 0 _ | exact hr.zA 8 _ | exact hr.zA 9 _ | exact hr.zS _ | exact hMz _ | exact hMz1 _ | exact zw_R _ | (unfold zR; omega)) (fun c58 => ?_) (fun c58 => ?_)
        · refine v_iload_n (pc := 66) hO dX4_picket_66 rfl ?_
          refine v_callV (pc := 67) (b := am) hO cp_X4 hr.ob (m_ofPicket hr a b (by omega) (by omega)) (lw_V q2272 q2274 qs43 q117 q2275) yo_X4_ofPicket rfl rfl rfl (by decide) (by decide) (k2 := 0) (n2 := 0) (by decide) (by decide) (by decide) (by decide) dX4_picket_67 (fun va hv hp hf1 => ?_)
          obtain ⟨rfl, rfl⟩ := hp
          exact v_iret hO dX4_picket_70 rfl (Nat.le_of_ble_eq_true rfl) (Nat.le_of_ble_eq_true rfl) (Or.inl ⟨by omega, (congrArg (fun z => some (Sum.inl z)) (by (repeat' split) <;> first | rfl | omega)), hr⟩)
        · refine v_bipush (pc := 61) hO dX4_picket_61 (by decide +kernel) ?_
          refine v_goto (pc := 63) (tgt := 67) hO dX4_picket_63 (by decide) ?_
          refine v_callV (pc := 67) (b := am) hO cp_X4 hr.ob (m_ofPicket hr a 6 (by omega) (by omega)) (lw_V q2272 q2274 qs43 q117 q2275) yo_X4_ofPicket rfl rfl rfl (by decide) (by decide) (k2 := 0) (n2 := 0) (by decide) (by decide) (by decide) (by decide) dX4_picket_67 (fun va hv hp hf1 => ?_)
          obtain ⟨rfl, rfl⟩ := hp
          exact v_iret hO dX4_picket_70 rfl (Nat.le_of_ble_eq_true rfl) (Nat.le_of_ble_eq_true rfl) (Or.inl ⟨by omega, (congrArg (fun z => some (Sum.inl z)) (by (repeat' split) <;> first | rfl | omega)), hr⟩)
      · have hpb := hpics.2 a (by omega) (by omega)
        refine v_aload_n (pc := 35) hO dX4_picket_35 rfl ?_
        refine v_iload_n (pc := 36) hO dX4_picket_36 rfl ?_
        refine v_aload_n (pc := 37) hO dX4_picket_37 rfl ?_
        refine v_callV (pc := 38) (b := am) hO cp_X4 hr.ob (m_turnNow hr) (lw_V q2264 q2266 qs41 q117 q2267) yo_X4_turnNow rfl rfl rfl (by decide) (by decide) (k2 := 0) (n2 := 0) (by decide) (by decide) (by decide) (by decide) dX4_picket_38 (fun va hv hp hf1 => ?_)
        obtain ⟨rfl, rfl⟩ := hp
        refine v_callV (pc := 41) (b := am) hO cp_X4 hr.ob (m_watches hr a (M 5) (by omega) (by omega) (by omega) (by first | assumption | exact hr.zA 0 _ | exact hr.zA 8 _ | exact hr.zA 9 _ | exact hr.zS _ | exact hMz _ | exact hMz1 _ | (unfold zR; omega)) hpb) (lw_V q2268 q2270 qs42 q117 q2271) yo_X4_watches rfl rfl rfl (by decide) (by decide) (k2 := 0) (n2 := 0) (by decide) (by decide) (by decide) (by decide) dX4_picket_41 (fun va hv hp hf1 => ?_)
        obtain ⟨rfl, rfl⟩ := hp
        refine v_ifb_eq (pc := 44) (tgt := 51) hO dX4_picket_44 (by decide) (fun c44 => ?_) (fun c44 => ?_)
        · refine v_iconst (pc := 51) hO dX4_picket_51 ?_
          exact v_iret hO dX4_picket_52 rfl (Nat.le_of_ble_eq_true rfl) (Nat.le_of_ble_eq_true rfl) (Or.inl ⟨by omega, (congrArg (fun z => some (Sum.inl z)) (by (repeat' split) <;> first | rfl | omega)), hr⟩)
        · refine v_iconst (pc := 47) hO dX4_picket_47 ?_
          refine v_goto (pc := 48) (tgt := 52) hO dX4_picket_48 (by decide) ?_
          exact v_iret hO dX4_picket_52 rfl (Nat.le_of_ble_eq_true rfl) (Nat.le_of_ble_eq_true rfl) (Or.inl ⟨by omega, (congrArg (fun z => some (Sum.inl z)) (by (repeat' split) <;> first | rfl | omega)), hr⟩)
    · refine v_aload_n (pc := 23) hO dX4_picket_23 rfl ?_
      refine v_iconst (pc := 24) hO dX4_picket_24 ?_
      refine v_callV (pc := 25) (b := am) hO cp_X4 hr.ob (m_raise hr hA 1 (by unfold zR; omega)) (lw_V q2222 q2224 qs34 q117 q2225) yo_X4_raise rfl rfl rfl (by decide) (by decide) (k2 := 0) (n2 := 0) (by decide) (by decide) (by decide) (by decide) dX4_picket_25 (fun va hv hp hf1 => ?_)
      obtain ⟨rfl, hr⟩ := hp
      rw [rS_rS] at hr
      exact v_iret hO dX4_picket_28 rfl (Nat.le_of_ble_eq_true rfl) (Nat.le_of_ble_eq_true rfl) (Or.inr ⟨by omega, (congrArg (fun z => some (Sum.inl z)) (by (repeat' split) <;> first | rfl | omega)), hr⟩)
theorem yo_X4_order : yOK yX4_order 2 := by unfold yOK; exact ⟨by decide +kernel, by decide +kernel, by decide +kernel⟩
set_option maxRecDepth 100000 in
theorem m_order {G : GT} {h : AH} {am : Nat} {ad : Nat → Nat} {nmf : Int → Option Nat} {S : Nat → Int} {Ar : Nat → Int → Int} {M : Int → Int} (hr : RefAt G h am ad nmf S (rA Ar 0 M)) {A : Nat → Prop} (hA : ∀ q, RA am ad q → A q) (a b : Int) (za : zR a) (zb : zR b) (hB : Bq M)  : CC G yX4_order cX4_order 3 (some .int) ({ frames := 3, cells := 0, slots := 0, locals := 55 } : Room) A [sref am, .inl a, .inl b] h (fun v h1 => ((inb a 0 (M 4 - 1) ∧ inb b 0 9) ∧ v = some (.inl (M (64 + 10 * a + b))) ∧ RefAt G h1 am ad nmf (rS S 6 0) (rA Ar 0 M)) ∨ (¬ (inb a 0 (M 4 - 1) ∧ inb b 0 9) ∧ v = some (.inl 0) ∧ RefAt G h1 am ad nmf (rS S 6 1) (rA Ar 0 M))) := by
  refine CC.of (by decide +kernel) [(0, sref am), (1, .inl a), (2, .inl b)] rfl (Nat.le_of_ble_eq_true rfl) (fun X hnm hO => ?_)
  have hMz : ∀ z, zR (M z) := fun z => hr.zA 0 z
  have hd := hB.hd
  have h2 := hB.1.2.1
  have h4 := hB.h4
  have h5 := hB.1.2.2.2.1
  have h8 := hB.1.2.2.2.2.1
  have hpics := hB.pics
  have h3 := hpics.1
  have h7 := hB.h7
  refine v_aload_n (pc := 0) hO dX4_order_0 rfl ?_
  refine v_iconst (pc := 1) hO dX4_order_1 ?_
  refine r_puti (pc := 2) (S2 := (rS S 6 0)) hO hr hA 6 rn_6 q2131 rfl (by first | assumption | exact hr.zA 0 _ | exact hr.zA 8 _ | exact hr.zA 9 _ | exact hr.zS _ | exact hMz _ | exact hMz1 _ | exact zw_R _ | (unfold zR; omega)) dX4_order_2 (fun h hr => ?_)
  refine v_aload_n (pc := 5) hO dX4_order_5 rfl ?_
  refine v_iload_n (pc := 6) hO dX4_order_6 rfl ?_
  refine v_callV (pc := 7) (b := am) hO cp_X4 hr.ob (m_isOrder hr a (by first | assumption | exact hr.zA 0 _ | exact hr.zA 8 _ | exact hr.zA 9 _ | exact hr.zS _ | exact hMz _ | exact hMz1 _ | (unfold zR; omega)) (by omega)) (lw_V q2283 q2285 qs44 q117 q2286) yo_X4_isOrder rfl rfl rfl (by decide) (by decide) (k2 := 0) (n2 := 0) (by decide) (by decide) (by decide) (by decide) dX4_order_7 (fun va hv hp hf1 => ?_)
  obtain ⟨rfl, rfl⟩ := hp
  refine v_ifb_eq (pc := 10) (tgt := 32) hO dX4_order_10 (by decide) (fun c10 => ?_) (fun c10 => ?_)
  · refine v_aload_n (pc := 32) hO dX4_order_32 rfl ?_
    refine v_iconst (pc := 33) hO dX4_order_33 ?_
    refine v_callV (pc := 34) (b := am) hO cp_X4 hr.ob (m_raise hr hA 1 (by unfold zR; omega)) (lw_V q2222 q2224 qs34 q117 q2225) yo_X4_raise rfl rfl rfl (by decide) (by decide) (k2 := 0) (n2 := 0) (by decide) (by decide) (by decide) (by decide) dX4_order_34 (fun va hv hp hf1 => ?_)
    obtain ⟨rfl, hr⟩ := hp
    rw [rS_rS] at hr
    exact v_iret hO dX4_order_37 rfl (Nat.le_of_ble_eq_true rfl) (Nat.le_of_ble_eq_true rfl) (Or.inr ⟨by omega, (congrArg (fun z => some (Sum.inl z)) (by (repeat' split) <;> first | rfl | omega)), hr⟩)
  · refine v_iload_n (pc := 13) hO dX4_order_13 rfl ?_
    refine v_iconst (pc := 14) hO dX4_order_14 ?_
    refine v_bipush (pc := 15) hO dX4_order_15 (by decide +kernel) ?_
    refine v_callS (pc := 17) hO (m_inRange b 0 9 (by first | assumption | exact hr.zA 0 _ | exact hr.zA 8 _ | exact hr.zA 9 _ | exact hr.zS _ | exact hMz _ | exact hMz1 _ | (unfold zR; omega)) (by first | assumption | exact hr.zA 0 _ | exact hr.zA 8 _ | exact hr.zA 9 _ | exact hr.zS _ | exact hMz _ | exact hMz1 _ | (unfold zR; omega)) (by first | assumption | exact hr.zA 0 _ | exact hr.zA 8 _ | exact hr.zA 9 _ | exact hr.zS _ | exact hMz _ | exact hMz1 _ | (unfold zR; omega))) (lw_S q2219 q2220 q117 q2221) yo_X4_inRange rfl rfl (by decide) (by decide) (k2 := 0) (n2 := 0) (by decide) (by decide) (by decide) (by decide) dX4_order_17 (fun va hv hp hf1 => ?_)
    obtain ⟨rfl, rfl⟩ := hp
    refine v_ifb_eq (pc := 20) (tgt := 32) hO dX4_order_20 (by decide) (fun c20 => ?_) (fun c20 => ?_)
    · refine v_aload_n (pc := 32) hO dX4_order_32 rfl ?_
      refine v_iconst (pc := 33) hO dX4_order_33 ?_
      refine v_callV (pc := 34) (b := am) hO cp_X4 hr.ob (m_raise hr hA 1 (by unfold zR; omega)) (lw_V q2222 q2224 qs34 q117 q2225) yo_X4_raise rfl rfl rfl (by decide) (by decide) (k2 := 0) (n2 := 0) (by decide) (by decide) (by decide) (by decide) dX4_order_34 (fun va hv hp hf1 => ?_)
      obtain ⟨rfl, hr⟩ := hp
      rw [rS_rS] at hr
      exact v_iret hO dX4_order_37 rfl (Nat.le_of_ble_eq_true rfl) (Nat.le_of_ble_eq_true rfl) (Or.inr ⟨by omega, (congrArg (fun z => some (Sum.inl z)) (by (repeat' split) <;> first | rfl | omega)), hr⟩)
    · refine v_aload_n (pc := 23) hO dX4_order_23 rfl ?_
      refine v_iload_n (pc := 24) hO dX4_order_24 rfl ?_
      refine v_iload_n (pc := 25) hO dX4_order_25 rfl ?_
      refine v_callV (pc := 26) (b := am) hO cp_X4 hr.ob (m_ofOrder hr a b (by omega) (by omega)) (lw_V q2245 q2247 qs38 q117 q2248) yo_X4_ofOrder rfl rfl rfl (by decide) (by decide) (k2 := 0) (n2 := 0) (by decide) (by decide) (by decide) (by decide) dX4_order_26 (fun va hv hp hf1 => ?_)
      obtain ⟨rfl, rfl⟩ := hp
      refine v_goto (pc := 29) (tgt := 37) hO dX4_order_29 (by decide) ?_
      exact v_iret hO dX4_order_37 rfl (Nat.le_of_ble_eq_true rfl) (Nat.le_of_ble_eq_true rfl) (Or.inl ⟨by omega, (congrArg (fun z => some (Sum.inl z)) (by (repeat' split) <;> first | rfl | omega)), hr⟩)
theorem yo_X4_plan : yOK yX4_plan 2 := by unfold yOK; exact ⟨by decide +kernel, by decide +kernel, by decide +kernel⟩
set_option maxRecDepth 100000 in
theorem m_plan {G : GT} {h : AH} {am : Nat} {ad : Nat → Nat} {nmf : Int → Option Nat} {S : Nat → Int} {Ar : Nat → Int → Int} {M : Int → Int} (hr : RefAt G h am ad nmf S (rA Ar 0 M)) {A : Nat → Prop} (hA : ∀ q, RA am ad q → A q) (a b : Int) (za : zR a) (zb : zR b) (hB : Bq M)  : CC G yX4_plan cX4_plan 3 (some .int) ({ frames := 3, cells := 0, slots := 0, locals := 55 } : Room) A [sref am, .inl a, .inl b] h (fun v h1 => ((inb a 0 (M 8 - 1) ∧ inb b 0 3) ∧ v = some (.inl (M (464 + 4 * a + b))) ∧ RefAt G h1 am ad nmf (rS S 6 0) (rA Ar 0 M)) ∨ (¬ (inb a 0 (M 8 - 1) ∧ inb b 0 3) ∧ v = some (.inl 0) ∧ RefAt G h1 am ad nmf (rS S 6 1) (rA Ar 0 M))) := by
  refine CC.of (by decide +kernel) [(0, sref am), (1, .inl a), (2, .inl b)] rfl (Nat.le_of_ble_eq_true rfl) (fun X hnm hO => ?_)
  have hMz : ∀ z, zR (M z) := fun z => hr.zA 0 z
  have hd := hB.hd
  have h2 := hB.1.2.1
  have h4 := hB.h4
  have h5 := hB.1.2.2.2.1
  have h8 := hB.1.2.2.2.2.1
  have hpics := hB.pics
  have h3 := hpics.1
  have h7 := hB.h7
  refine v_aload_n (pc := 0) hO dX4_plan_0 rfl ?_
  refine v_iconst (pc := 1) hO dX4_plan_1 ?_
  refine r_puti (pc := 2) (S2 := (rS S 6 0)) hO hr hA 6 rn_6 q2131 rfl (by first | assumption | exact hr.zA 0 _ | exact hr.zA 8 _ | exact hr.zA 9 _ | exact hr.zS _ | exact hMz _ | exact hMz1 _ | exact zw_R _ | (unfold zR; omega)) dX4_plan_2 (fun h hr => ?_)
  refine v_aload_n (pc := 5) hO dX4_plan_5 rfl ?_
  refine v_iload_n (pc := 6) hO dX4_plan_6 rfl ?_
  refine v_callV (pc := 7) (b := am) hO cp_X4 hr.ob (m_isPlan hr a (by first | assumption | exact hr.zA 0 _ | exact hr.zA 8 _ | exact hr.zA 9 _ | exact hr.zS _ | exact hMz _ | exact hMz1 _ | (unfold zR; omega)) (by omega)) (lw_V q2291 q2293 qs45 q117 q2294) yo_X4_isPlan rfl rfl rfl (by decide) (by decide) (k2 := 0) (n2 := 0) (by decide) (by decide) (by decide) (by decide) dX4_plan_7 (fun va hv hp hf1 => ?_)
  obtain ⟨rfl, rfl⟩ := hp
  refine v_ifb_eq (pc := 10) (tgt := 35) hO dX4_plan_10 (by decide) (fun c10 => ?_) (fun c10 => ?_)
  · refine v_aload_n (pc := 35) hO dX4_plan_35 rfl ?_
    refine v_iconst (pc := 36) hO dX4_plan_36 ?_
    refine v_callV (pc := 37) (b := am) hO cp_X4 hr.ob (m_raise hr hA 1 (by unfold zR; omega)) (lw_V q2222 q2224 qs34 q117 q2225) yo_X4_raise rfl rfl rfl (by decide) (by decide) (k2 := 0) (n2 := 0) (by decide) (by decide) (by decide) (by decide) dX4_plan_37 (fun va hv hp hf1 => ?_)
    obtain ⟨rfl, hr⟩ := hp
    rw [rS_rS] at hr
    exact v_iret hO dX4_plan_40 rfl (Nat.le_of_ble_eq_true rfl) (Nat.le_of_ble_eq_true rfl) (Or.inr ⟨by omega, (congrArg (fun z => some (Sum.inl z)) (by (repeat' split) <;> first | rfl | omega)), hr⟩)
  · refine v_iload_n (pc := 13) hO dX4_plan_13 rfl ?_
    refine v_iconst (pc := 14) hO dX4_plan_14 ?_
    refine v_iconst (pc := 15) hO dX4_plan_15 ?_
    refine v_callS (pc := 16) hO (m_inRange b 0 3 (by first | assumption | exact hr.zA 0 _ | exact hr.zA 8 _ | exact hr.zA 9 _ | exact hr.zS _ | exact hMz _ | exact hMz1 _ | (unfold zR; omega)) (by first | assumption | exact hr.zA 0 _ | exact hr.zA 8 _ | exact hr.zA 9 _ | exact hr.zS _ | exact hMz _ | exact hMz1 _ | (unfold zR; omega)) (by first | assumption | exact hr.zA 0 _ | exact hr.zA 8 _ | exact hr.zA 9 _ | exact hr.zS _ | exact hMz _ | exact hMz1 _ | (unfold zR; omega))) (lw_S q2219 q2220 q117 q2221) yo_X4_inRange rfl rfl (by decide) (by decide) (k2 := 0) (n2 := 0) (by decide) (by decide) (by decide) (by decide) dX4_plan_16 (fun va hv hp hf1 => ?_)
    obtain ⟨rfl, rfl⟩ := hp
    refine v_ifb_eq (pc := 19) (tgt := 35) hO dX4_plan_19 (by decide) (fun c19 => ?_) (fun c19 => ?_)
    · refine v_aload_n (pc := 35) hO dX4_plan_35 rfl ?_
      refine v_iconst (pc := 36) hO dX4_plan_36 ?_
      refine v_callV (pc := 37) (b := am) hO cp_X4 hr.ob (m_raise hr hA 1 (by unfold zR; omega)) (lw_V q2222 q2224 qs34 q117 q2225) yo_X4_raise rfl rfl rfl (by decide) (by decide) (k2 := 0) (n2 := 0) (by decide) (by decide) (by decide) (by decide) dX4_plan_37 (fun va hv hp hf1 => ?_)
      obtain ⟨rfl, hr⟩ := hp
      rw [rS_rS] at hr
      exact v_iret hO dX4_plan_40 rfl (Nat.le_of_ble_eq_true rfl) (Nat.le_of_ble_eq_true rfl) (Or.inr ⟨by omega, (congrArg (fun z => some (Sum.inl z)) (by (repeat' split) <;> first | rfl | omega)), hr⟩)
    · refine v_aload_n (pc := 22) hO dX4_plan_22 rfl ?_
      refine v_getf (pc := 23) (v := sref (ad 0)) hO cp_X4 0 q2125 hr.ob (by decide) rfl dX4_plan_23 ?_
      refine v_iload_n (pc := 26) hO dX4_plan_26 rfl ?_
      refine v_iload_n (pc := 27) hO dX4_plan_27 rfl ?_
      refine v_callS (pc := 28) hO (m_planAt a b) (lw_S q2295 q2296 q117 q2297) yo_X4_planAt rfl rfl (by decide) (by decide) (k2 := 0) (n2 := 0) (by decide) (by decide) (by decide) (by decide) dX4_plan_28 (fun va hv hp hf1 => ?_)
      obtain ⟨rfl, rfl⟩ := hp
      refine r_iald (pc := 31) (w := M (464 + 4 * a + b)) (L := 3934) hO hr 0 ri_0 rfl rfl (by omega) (by omega) dX4_plan_31 ?_
      refine v_goto (pc := 32) (tgt := 40) hO dX4_plan_32 (by decide) ?_
      exact v_iret hO dX4_plan_40 rfl (Nat.le_of_ble_eq_true rfl) (Nat.le_of_ble_eq_true rfl) (Or.inl ⟨by omega, (congrArg (fun z => some (Sum.inl z)) (by (repeat' split) <;> first | rfl | omega)), hr⟩)
theorem yo_X4_event : yOK yX4_event 2 := by unfold yOK; exact ⟨by decide +kernel, by decide +kernel, by decide +kernel⟩
set_option maxRecDepth 100000 in
theorem m_event {G : GT} {h : AH} {am : Nat} {ad : Nat → Nat} {nmf : Int → Option Nat} {S : Nat → Int} {Ar : Nat → Int → Int} {M : Int → Int} (hr : RefAt G h am ad nmf S (rA Ar 0 M)) {A : Nat → Prop} (hA : ∀ q, RA am ad q → A q) (a b : Int) (za : zR a) (zb : zR b) (hB : Bq M)  : CC G yX4_event cX4_event 4 (some .int) ({ frames := 2, cells := 0, slots := 0, locals := 34 } : Room) A [sref am, .inl a, .inl b] h (fun v h1 => ((inb a 0 (M 7 - 1) ∧ inb b 0 2) ∧ v = some (.inl (M (544 + 3 * a + b))) ∧ RefAt G h1 am ad nmf (rS S 6 0) (rA Ar 0 M)) ∨ (¬ (inb a 0 (M 7 - 1) ∧ inb b 0 2) ∧ v = some (.inl 0) ∧ RefAt G h1 am ad nmf (rS S 6 1) (rA Ar 0 M))) := by
  refine CC.of (by decide +kernel) [(0, sref am), (1, .inl a), (2, .inl b)] rfl (Nat.le_of_ble_eq_true rfl) (fun X hnm hO => ?_)
  have hMz : ∀ z, zR (M z) := fun z => hr.zA 0 z
  have hd := hB.hd
  have h2 := hB.1.2.1
  have h4 := hB.h4
  have h5 := hB.1.2.2.2.1
  have h8 := hB.1.2.2.2.2.1
  have hpics := hB.pics
  have h3 := hpics.1
  have h7 := hB.h7
  refine v_aload_n (pc := 0) hO dX4_event_0 rfl ?_
  refine v_iconst (pc := 1) hO dX4_event_1 ?_
  refine r_puti (pc := 2) (S2 := (rS S 6 0)) hO hr hA 6 rn_6 q2131 rfl (by first | assumption | exact hr.zA 0 _ | exact hr.zA 8 _ | exact hr.zA 9 _ | exact hr.zS _ | exact hMz _ | exact hMz1 _ | exact zw_R _ | (unfold zR; omega)) dX4_event_2 (fun h hr => ?_)
  refine v_iload_n (pc := 5) hO dX4_event_5 rfl ?_
  refine v_iconst (pc := 6) hO dX4_event_6 ?_
  refine v_aload_n (pc := 7) hO dX4_event_7 rfl ?_
  refine v_getf (pc := 8) (v := sref (ad 0)) hO cp_X4 0 q2125 hr.ob (by decide) rfl dX4_event_8 ?_
  refine v_bipush (pc := 11) hO dX4_event_11 (by decide +kernel) ?_
  refine r_iald (pc := 13) (w := M 7) (L := 3934) hO hr 0 ri_0 rfl rfl (by omega) (by omega) dX4_event_13 ?_
  refine v_iconst (pc := 14) hO dX4_event_14 ?_
  refine v_isub (pc := 15) hO dX4_event_15 ?_
  refine v_callS (pc := 16) hO (m_inRange a 0 (M 7 - 1) (by first | assumption | exact hr.zA 0 _ | exact hr.zA 8 _ | exact hr.zA 9 _ | exact hr.zS _ | exact hMz _ | exact hMz1 _ | (unfold zR; omega)) (by first | assumption | exact hr.zA 0 _ | exact hr.zA 8 _ | exact hr.zA 9 _ | exact hr.zS _ | exact hMz _ | exact hMz1 _ | (unfold zR; omega)) (by first | assumption | exact hr.zA 0 _ | exact hr.zA 8 _ | exact hr.zA 9 _ | exact hr.zS _ | exact hMz _ | exact hMz1 _ | (unfold zR; omega))) (lw_S q2219 q2220 q117 q2221) yo_X4_inRange rfl rfl (by decide) (by decide) (k2 := 0) (n2 := 0) (by decide) (by decide) (by decide) (by decide) dX4_event_16 (fun va hv hp hf1 => ?_)
  obtain ⟨rfl, rfl⟩ := hp
  refine v_ifb_eq (pc := 19) (tgt := 35) hO dX4_event_19 (by decide) (fun c19 => ?_) (fun c19 => ?_)
  · refine v_iconst (pc := 35) hO dX4_event_35 ?_
    refine v_istore_n (pc := 36) hO (lv' := [(3, .inl 0), (0, sref am), (1, .inl a), (2, .inl b)]) dX4_event_36 (by decide) rfl ?_
    refine v_iload_n (pc := 37) hO dX4_event_37 rfl ?_
    refine v_if_eq (pc := 38) (tgt := 58) hO dX4_event_38 (by decide) (by unfold zR; omega) (fun c38 => ?_) (fun c38 => absurd c38 (by omega))
    refine v_aload_n (pc := 58) hO dX4_event_58 rfl ?_
    refine v_iconst (pc := 59) hO dX4_event_59 ?_
    refine v_callV (pc := 60) (b := am) hO cp_X4 hr.ob (m_raise hr hA 1 (by unfold zR; omega)) (lw_V q2222 q2224 qs34 q117 q2225) yo_X4_raise rfl rfl rfl (by decide) (by decide) (k2 := 0) (n2 := 0) (by decide) (by decide) (by decide) (by decide) dX4_event_60 (fun va hv hp hf1 => ?_)
    obtain ⟨rfl, hr⟩ := hp
    rw [rS_rS] at hr
    exact v_iret hO dX4_event_63 rfl (Nat.le_of_ble_eq_true rfl) (Nat.le_of_ble_eq_true rfl) (Or.inr ⟨by omega, (congrArg (fun z => some (Sum.inl z)) (by (repeat' split) <;> first | rfl | omega)), hr⟩)
  · refine v_iload_n (pc := 22) hO dX4_event_22 rfl ?_
    refine v_iconst (pc := 23) hO dX4_event_23 ?_
    refine v_iconst (pc := 24) hO dX4_event_24 ?_
    refine v_callS (pc := 25) hO (m_inRange b 0 2 (by first | assumption | exact hr.zA 0 _ | exact hr.zA 8 _ | exact hr.zA 9 _ | exact hr.zS _ | exact hMz _ | exact hMz1 _ | (unfold zR; omega)) (by first | assumption | exact hr.zA 0 _ | exact hr.zA 8 _ | exact hr.zA 9 _ | exact hr.zS _ | exact hMz _ | exact hMz1 _ | (unfold zR; omega)) (by first | assumption | exact hr.zA 0 _ | exact hr.zA 8 _ | exact hr.zA 9 _ | exact hr.zS _ | exact hMz _ | exact hMz1 _ | (unfold zR; omega))) (lw_S q2219 q2220 q117 q2221) yo_X4_inRange rfl rfl (by decide) (by decide) (k2 := 0) (n2 := 0) (by decide) (by decide) (by decide) (by decide) dX4_event_25 (fun va hv hp hf1 => ?_)
    obtain ⟨rfl, rfl⟩ := hp
    refine v_ifb_eq (pc := 28) (tgt := 35) hO dX4_event_28 (by decide) (fun c28 => ?_) (fun c28 => ?_)
    · refine v_iconst (pc := 35) hO dX4_event_35 ?_
      refine v_istore_n (pc := 36) hO (lv' := [(3, .inl 0), (0, sref am), (1, .inl a), (2, .inl b)]) dX4_event_36 (by decide) rfl ?_
      refine v_iload_n (pc := 37) hO dX4_event_37 rfl ?_
      refine v_if_eq (pc := 38) (tgt := 58) hO dX4_event_38 (by decide) (by unfold zR; omega) (fun c38 => ?_) (fun c38 => absurd c38 (by omega))
      refine v_aload_n (pc := 58) hO dX4_event_58 rfl ?_
      refine v_iconst (pc := 59) hO dX4_event_59 ?_
      refine v_callV (pc := 60) (b := am) hO cp_X4 hr.ob (m_raise hr hA 1 (by unfold zR; omega)) (lw_V q2222 q2224 qs34 q117 q2225) yo_X4_raise rfl rfl rfl (by decide) (by decide) (k2 := 0) (n2 := 0) (by decide) (by decide) (by decide) (by decide) dX4_event_60 (fun va hv hp hf1 => ?_)
      obtain ⟨rfl, hr⟩ := hp
      rw [rS_rS] at hr
      exact v_iret hO dX4_event_63 rfl (Nat.le_of_ble_eq_true rfl) (Nat.le_of_ble_eq_true rfl) (Or.inr ⟨by omega, (congrArg (fun z => some (Sum.inl z)) (by (repeat' split) <;> first | rfl | omega)), hr⟩)
    · refine v_iconst (pc := 31) hO dX4_event_31 ?_
      refine v_goto (pc := 32) (tgt := 36) hO dX4_event_32 (by decide) ?_
      refine v_istore_n (pc := 36) hO (lv' := [(3, .inl 1), (0, sref am), (1, .inl a), (2, .inl b)]) dX4_event_36 (by decide) rfl ?_
      refine v_iload_n (pc := 37) hO dX4_event_37 rfl ?_
      refine v_if_eq (pc := 38) (tgt := 58) hO dX4_event_38 (by decide) (by unfold zR; omega) (fun c38 => absurd c38 (by omega)) (fun c38 => ?_)
      refine v_aload_n (pc := 41) hO dX4_event_41 rfl ?_
      refine v_getf (pc := 42) (v := sref (ad 0)) hO cp_X4 0 q2125 hr.ob (by decide) rfl dX4_event_42 ?_
      refine v_sipush (pc := 45) hO dX4_event_45 (by decide +kernel) ?_
      refine v_iconst (pc := 48) hO dX4_event_48 ?_
      refine v_iload_n (pc := 49) hO dX4_event_49 rfl ?_
      refine v_imul (pc := 50) hO dX4_event_50 ?_
      refine v_iadd (pc := 51) hO dX4_event_51 ?_
      refine v_iload_n (pc := 52) hO dX4_event_52 rfl ?_
      refine v_iadd (pc := 53) hO dX4_event_53 ?_
      refine r_iald (pc := 54) (w := M (544 + (3 * a) + b)) (L := 3934) hO hr 0 ri_0 rfl rfl (by omega) (by omega) dX4_event_54 ?_
      refine v_goto (pc := 55) (tgt := 63) hO dX4_event_55 (by decide) ?_
      exact v_iret hO dX4_event_63 rfl (Nat.le_of_ble_eq_true rfl) (Nat.le_of_ble_eq_true rfl) (Or.inl ⟨by omega, (congrArg (fun z => some (Sum.inl z)) (by (repeat' split) <;> first | rfl | omega)), hr⟩)
theorem yo_X4_orders : yOK yX4_orders 1 := by unfold yOK; exact ⟨by decide +kernel, by decide +kernel, by decide +kernel⟩
set_option maxRecDepth 100000 in
theorem m_orders {G : GT} {h : AH} {am : Nat} {ad : Nat → Nat} {nmf : Int → Option Nat} {S : Nat → Int} {Ar : Nat → Int → Int} {M : Int → Int} (hr : RefAt G h am ad nmf S (rA Ar 0 M)) {A : Nat → Prop} (hA : ∀ q, RA am ad q → A q) (a : Int) (za : zR a) (hB : Bq M)  : CC G yX4_orders cX4_orders 2 (some .int) ({ frames := 4, cells := 0, slots := 0, locals := 78 } : Room) A [sref am, .inl a] h (fun v h1 => ((inb a 0 6) ∧ v = some (.inl (stcM M a)) ∧ RefAt G h1 am ad nmf (rS S 6 0) (rA Ar 0 M)) ∨ (¬ (inb a 0 6) ∧ v = some (.inl 0) ∧ RefAt G h1 am ad nmf (rS S 6 1) (rA Ar 0 M))) := by
  refine CC.of (by decide +kernel) [(0, sref am), (1, .inl a)] rfl (Nat.le_of_ble_eq_true rfl) (fun X hnm hO => ?_)
  have hMz : ∀ z, zR (M z) := fun z => hr.zA 0 z
  have hd := hB.hd
  have h2 := hB.1.2.1
  have h4 := hB.h4
  have h5 := hB.1.2.2.2.1
  have h8 := hB.1.2.2.2.2.1
  have hpics := hB.pics
  have h3 := hpics.1
  have h7 := hB.h7
  refine v_aload_n (pc := 0) hO dX4_orders_0 rfl ?_
  refine v_iconst (pc := 1) hO dX4_orders_1 ?_
  refine r_puti (pc := 2) (S2 := (rS S 6 0)) hO hr hA 6 rn_6 q2131 rfl (by first | assumption | exact hr.zA 0 _ | exact hr.zA 8 _ | exact hr.zA 9 _ | exact hr.zS _ | exact hMz _ | exact hMz1 _ | exact zw_R _ | (unfold zR; omega)) dX4_orders_2 (fun h hr => ?_)
  refine v_iload_n (pc := 5) hO dX4_orders_5 rfl ?_
  refine v_iconst (pc := 6) hO dX4_orders_6 ?_
  refine v_bipush (pc := 7) hO dX4_orders_7 (by decide +kernel) ?_
  refine v_callS (pc := 9) hO (m_inRange a 0 6 (by first | assumption | exact hr.zA 0 _ | exact hr.zA 8 _ | exact hr.zA 9 _ | exact hr.zS _ | exact hMz _ | exact hMz1 _ | (unfold zR; omega)) (by first | assumption | exact hr.zA 0 _ | exact hr.zA 8 _ | exact hr.zA 9 _ | exact hr.zS _ | exact hMz _ | exact hMz1 _ | (unfold zR; omega)) (by first | assumption | exact hr.zA 0 _ | exact hr.zA 8 _ | exact hr.zA 9 _ | exact hr.zS _ | exact hMz _ | exact hMz1 _ | (unfold zR; omega))) (lw_S q2219 q2220 q117 q2221) yo_X4_inRange rfl rfl (by decide) (by decide) (k2 := 0) (n2 := 0) (by decide) (by decide) (by decide) (by decide) dX4_orders_9 (fun va hv hp hf1 => ?_)
  obtain ⟨rfl, rfl⟩ := hp
  refine v_ifb_eq (pc := 12) (tgt := 23) hO dX4_orders_12 (by decide) (fun c12 => ?_) (fun c12 => ?_)
  · refine v_aload_n (pc := 23) hO dX4_orders_23 rfl ?_
    refine v_iconst (pc := 24) hO dX4_orders_24 ?_
    refine v_callV (pc := 25) (b := am) hO cp_X4 hr.ob (m_raise hr hA 1 (by unfold zR; omega)) (lw_V q2222 q2224 qs34 q117 q2225) yo_X4_raise rfl rfl rfl (by decide) (by decide) (k2 := 0) (n2 := 0) (by decide) (by decide) (by decide) (by decide) dX4_orders_25 (fun va hv hp hf1 => ?_)
    obtain ⟨rfl, hr⟩ := hp
    rw [rS_rS] at hr
    exact v_iret hO dX4_orders_28 rfl (Nat.le_of_ble_eq_true rfl) (Nat.le_of_ble_eq_true rfl) (Or.inr ⟨by omega, (congrArg (fun z => some (Sum.inl z)) (by (repeat' split) <;> first | rfl | omega)), hr⟩)
  · refine v_aload_n (pc := 15) hO dX4_orders_15 rfl ?_
    refine v_iload_n (pc := 16) hO dX4_orders_16 rfl ?_
    refine v_callV (pc := 17) (b := am) hO cp_X4 hr.ob (m_ordersIn hr a (by first | assumption | exact hr.zA 0 _ | exact hr.zA 8 _ | exact hr.zA 9 _ | exact hr.zS _ | exact hMz _ | exact hMz1 _ | (unfold zR; omega)) (by omega)) (lw_V q2306 q2308 qs46 q117 q2309) yo_X4_ordersIn rfl rfl rfl (by decide) (by decide) (k2 := 0) (n2 := 0) (by decide) (by decide) (by decide) (by decide) dX4_orders_17 (fun va hv hp hf1 => ?_)
    obtain ⟨rfl, rfl⟩ := hp
    refine v_goto (pc := 20) (tgt := 28) hO dX4_orders_20 (by decide) ?_
    exact v_iret hO dX4_orders_28 rfl (Nat.le_of_ble_eq_true rfl) (Nat.le_of_ble_eq_true rfl) (Or.inl ⟨by omega, (congrArg (fun z => some (Sum.inl z)) (by (repeat' split) <;> first | rfl | omega)), hr⟩)
theorem yo_X4_isWall : yOK yX4_isWall 2 := by unfold yOK; exact ⟨by decide +kernel, by decide +kernel, by decide +kernel⟩
set_option maxRecDepth 100000 in
theorem m_isWall {G : GT} {h : AH} {am : Nat} {ad : Nat → Nat} {nmf : Int → Option Nat} {S : Nat → Int} {Ar : Nat → Int → Int} {M : Int → Int} (hr : RefAt G h am ad nmf S (rA Ar 0 M)) {A : Nat → Prop} (hA : ∀ q, RA am ad q → A q) (x y : Int) (zx : zR x) (zy : zR y) (hB : Bq M)  : CC G yX4_isWall cX4_isWall 3 (some .boolean) ({ frames := 4, cells := 0, slots := 0, locals := 78 } : Room) A [sref am, .inl x, .inl y] h (fun v h1 => ((cellP M x y) ∧ v = some (.inl (if M (784 + 12 * y + x) = 0 then 0 else 1)) ∧ RefAt G h1 am ad nmf (rS S 6 0) (rA Ar 0 M)) ∨ (¬ (cellP M x y) ∧ v = some (.inl 0) ∧ RefAt G h1 am ad nmf (rS S 6 1) (rA Ar 0 M))) := by
  refine CC.of (by decide +kernel) [(0, sref am), (1, .inl x), (2, .inl y)] rfl (Nat.le_of_ble_eq_true rfl) (fun X hnm hO => ?_)
  have hMz : ∀ z, zR (M z) := fun z => hr.zA 0 z
  have hd := hB.hd
  have h2 := hB.1.2.1
  have h4 := hB.h4
  have h5 := hB.1.2.2.2.1
  have h8 := hB.1.2.2.2.2.1
  have hpics := hB.pics
  have h3 := hpics.1
  have h7 := hB.h7
  have hWl := hB.2.2.2.2.2.2.1
  refine v_aload_n (pc := 0) hO dX4_isWall_0 rfl ?_
  refine v_aload_n (pc := 1) hO dX4_isWall_1 rfl ?_
  refine v_iload_n (pc := 2) hO dX4_isWall_2 rfl ?_
  refine v_iload_n (pc := 3) hO dX4_isWall_3 rfl ?_
  refine v_callV (pc := 4) (b := am) hO cp_X4 hr.ob (m_isCell hr x y (by first | assumption | exact hr.zA 0 _ | exact hr.zA 8 _ | exact hr.zA 9 _ | exact hr.zS _ | exact hMz _ | exact hMz1 _ | (unfold zR; omega)) (by first | assumption | exact hr.zA 0 _ | exact hr.zA 8 _ | exact hr.zA 9 _ | exact hr.zS _ | exact hMz _ | exact hMz1 _ | (unfold zR; omega)) hd) (lw_V q2314 q2316 qs47 q117 q2317) yo_X4_isCell rfl rfl rfl (by decide) (by decide) (k2 := 0) (n2 := 0) (by decide) (by decide) (by decide) (by decide) dX4_isWall_4 (fun va hv hp hf1 => ?_)
  obtain ⟨rfl, rfl⟩ := hp
  refine v_ifb_eq (pc := 7) (tgt := 14) hO dX4_isWall_7 (by decide) (fun c7 => ?_) (fun c7 => ?_)
  · refine v_iconst (pc := 14) hO dX4_isWall_14 ?_
    refine r_puti (pc := 15) (S2 := (rS S 6 1)) hO hr hA 6 rn_6 q2131 rfl (by first | assumption | exact hr.zA 0 _ | exact hr.zA 8 _ | exact hr.zA 9 _ | exact hr.zS _ | exact hMz _ | exact hMz1 _ | exact zw_R _ | (unfold zR; omega)) dX4_isWall_15 (fun h hr => ?_)
    refine v_aload_n (pc := 18) hO dX4_isWall_18 rfl ?_
    refine v_getf (pc := 19) (v := .inl 1) hO cp_X4 6 q2131 hr.ob (by decide) rfl dX4_isWall_19 ?_
    refine v_if_ne (pc := 22) (tgt := 38) hO dX4_isWall_22 (by decide) (by unfold zR; omega) (fun c22 => ?_) (fun c22 => absurd c22 (by omega))
    refine v_iconst (pc := 38) hO dX4_isWall_38 ?_
    exact v_zret hO dX4_isWall_39 rfl (by decide +kernel) (Nat.le_of_ble_eq_true rfl) (Nat.le_of_ble_eq_true rfl) (Or.inr ⟨by omega, (congrArg (fun z => some (Sum.inl z)) (by (repeat' split) <;> first | rfl | omega)), hr⟩)
  · refine v_iconst (pc := 10) hO dX4_isWall_10 ?_
    refine v_goto (pc := 11) (tgt := 15) hO dX4_isWall_11 (by decide) ?_
    refine r_puti (pc := 15) (S2 := (rS S 6 0)) hO hr hA 6 rn_6 q2131 rfl (by first | assumption | exact hr.zA 0 _ | exact hr.zA 8 _ | exact hr.zA 9 _ | exact hr.zS _ | exact hMz _ | exact hMz1 _ | exact zw_R _ | (unfold zR; omega)) dX4_isWall_15 (fun h hr => ?_)
    refine v_aload_n (pc := 18) hO dX4_isWall_18 rfl ?_
    refine v_getf (pc := 19) (v := .inl 0) hO cp_X4 6 q2131 hr.ob (by decide) rfl dX4_isWall_19 ?_
    refine v_if_ne (pc := 22) (tgt := 38) hO dX4_isWall_22 (by decide) (by unfold zR; omega) (fun c22 => absurd c22 (by omega)) (fun c22 => ?_)
    refine v_aload_n (pc := 25) hO dX4_isWall_25 rfl ?_
    refine v_iload_n (pc := 26) hO dX4_isWall_26 rfl ?_
    refine v_iload_n (pc := 27) hO dX4_isWall_27 rfl ?_
    refine v_callV (pc := 28) (b := am) hO cp_X4 hr.ob (m_isFree hr x y (by first | assumption | exact hr.zA 0 _ | exact hr.zA 8 _ | exact hr.zA 9 _ | exact hr.zS _ | exact hMz _ | exact hMz1 _ | (unfold zR; omega)) (by first | assumption | exact hr.zA 0 _ | exact hr.zA 8 _ | exact hr.zA 9 _ | exact hr.zS _ | exact hMz _ | exact hMz1 _ | (unfold zR; omega)) hd) (lw_V q2318 q2320 qs48 q117 q2321) yo_X4_isFree rfl rfl rfl (by decide) (by decide) (k2 := 0) (n2 := 0) (by decide) (by decide) (by decide) (by decide) dX4_isWall_28 (fun va hv hp hf1 => ?_)
    obtain ⟨rfl, rfl⟩ := hp
    refine v_ifb_ne (pc := 31) (tgt := 38) hO dX4_isWall_31 (by decide) (fun c31 => ?_) (fun c31 => ?_)
    · refine v_iconst (pc := 38) hO dX4_isWall_38 ?_
      exact v_zret hO dX4_isWall_39 rfl (by decide +kernel) (Nat.le_of_ble_eq_true rfl) (Nat.le_of_ble_eq_true rfl) (Or.inl ⟨by omega, (congrArg (fun z => some (Sum.inl z)) (by (repeat' split) <;> first | rfl | omega)), hr⟩)
    · refine v_iconst (pc := 34) hO dX4_isWall_34 ?_
      refine v_goto (pc := 35) (tgt := 39) hO dX4_isWall_35 (by decide) ?_
      exact v_zret hO dX4_isWall_39 rfl (by decide +kernel) (Nat.le_of_ble_eq_true rfl) (Nat.le_of_ble_eq_true rfl) (Or.inl ⟨by omega, (congrArg (fun z => some (Sum.inl z)) (by (repeat' split) <;> first | rfl | omega)), hr⟩)
theorem yo_X4_isWatched : yOK yX4_isWatched 3 := by unfold yOK; exact ⟨by decide +kernel, by decide +kernel, by decide +kernel⟩
set_option maxRecDepth 100000 in
theorem m_isWatched {G : GT} {h : AH} {am : Nat} {ad : Nat → Nat} {nmf : Int → Option Nat} {S : Nat → Int} {Ar : Nat → Int → Int} {M : Int → Int} (hr : RefAt G h am ad nmf S (rA Ar 0 M)) {A : Nat → Prop} (hA : ∀ q, RA am ad q → A q) (x y t : Int) (zx : zR x) (zy : zR y) (zt : zR t) (hB : Bq M)  : CC G yX4_isWatched cX4_isWatched 4 (some .boolean) ({ frames := 5, cells := 0, slots := 0, locals := 103 } : Room) A [sref am, .inl x, .inl y, .inl t] h (fun v h1 => (((cellP M x y) ∧ 0 ≤ t) ∧ v = some (.inl (if wchM M x y t = -1 then 0 else 1)) ∧ RefAt G h1 am ad nmf (rS S 6 0) (rA Ar 0 M)) ∨ (¬ (cellP M x y) ∧ v = some (.inl 0) ∧ RefAt G h1 am ad nmf (rS S 6 1) (rA Ar 0 M)) ∨ (((cellP M x y) ∧ ¬ (0 ≤ t)) ∧ v = some (.inl 0) ∧ RefAt G h1 am ad nmf (rS S 6 2) (rA Ar 0 M))) := by
  refine CC.of (by decide +kernel) [(0, sref am), (1, .inl x), (2, .inl y), (3, .inl t)] rfl (Nat.le_of_ble_eq_true rfl) (fun X hnm hO => ?_)
  have hMz : ∀ z, zR (M z) := fun z => hr.zA 0 z
  have hd := hB.hd
  have h2 := hB.1.2.1
  have h4 := hB.h4
  have h5 := hB.1.2.2.2.1
  have h8 := hB.1.2.2.2.2.1
  have hpics := hB.pics
  have h3 := hpics.1
  have h7 := hB.h7
  refine v_aload_n (pc := 0) hO dX4_isWatched_0 rfl ?_
  refine v_aload_n (pc := 1) hO dX4_isWatched_1 rfl ?_
  refine v_iload_n (pc := 2) hO dX4_isWatched_2 rfl ?_
  refine v_iload_n (pc := 3) hO dX4_isWatched_3 rfl ?_
  refine v_callV (pc := 4) (b := am) hO cp_X4 hr.ob (m_isCell hr x y (by first | assumption | exact hr.zA 0 _ | exact hr.zA 8 _ | exact hr.zA 9 _ | exact hr.zS _ | exact hMz _ | exact hMz1 _ | (unfold zR; omega)) (by first | assumption | exact hr.zA 0 _ | exact hr.zA 8 _ | exact hr.zA 9 _ | exact hr.zS _ | exact hMz _ | exact hMz1 _ | (unfold zR; omega)) hd) (lw_V q2314 q2316 qs47 q117 q2317) yo_X4_isCell rfl rfl rfl (by decide) (by decide) (k2 := 0) (n2 := 0) (by decide) (by decide) (by decide) (by decide) dX4_isWatched_4 (fun va hv hp hf1 => ?_)
  obtain ⟨rfl, rfl⟩ := hp
  refine v_ifb_ne (pc := 7) (tgt := 14) hO dX4_isWatched_7 (by decide) (fun c7 => ?_) (fun c7 => ?_)
  · refine v_iload_n (pc := 14) hO dX4_isWatched_14 rfl ?_
    refine v_if_lt (pc := 15) (tgt := 22) hO dX4_isWatched_15 (by decide) (by first | assumption | exact hr.zA 0 _ | exact hr.zA 8 _ | exact hr.zA 9 _ | exact hr.zS _ | exact hMz _ | exact hMz1 _ | exact zw_R _ | (unfold zR; omega)) (fun c15 => ?_) (fun c15 => ?_)
    · refine v_iconst (pc := 22) hO dX4_isWatched_22 ?_
      refine r_puti (pc := 23) (S2 := (rS S 6 2)) hO hr hA 6 rn_6 q2131 rfl (by first | assumption | exact hr.zA 0 _ | exact hr.zA 8 _ | exact hr.zA 9 _ | exact hr.zS _ | exact hMz _ | exact hMz1 _ | exact zw_R _ | (unfold zR; omega)) dX4_isWatched_23 (fun h hr => ?_)
      refine v_aload_n (pc := 26) hO dX4_isWatched_26 rfl ?_
      refine v_getf (pc := 27) (v := .inl 2) hO cp_X4 6 q2131 hr.ob (by decide) rfl dX4_isWatched_27 ?_
      refine v_if_ne (pc := 30) (tgt := 48) hO dX4_isWatched_30 (by decide) (by unfold zR; omega) (fun c30 => ?_) (fun c30 => absurd c30 (by omega))
      refine v_iconst (pc := 48) hO dX4_isWatched_48 ?_
      exact v_zret hO dX4_isWatched_49 rfl (by decide +kernel) (Nat.le_of_ble_eq_true rfl) (Nat.le_of_ble_eq_true rfl) (Or.inr (Or.inr ⟨by omega, (congrArg (fun z => some (Sum.inl z)) (by (repeat' split) <;> first | rfl | omega)), hr⟩))
    · refine v_iconst (pc := 18) hO dX4_isWatched_18 ?_
      refine v_goto (pc := 19) (tgt := 23) hO dX4_isWatched_19 (by decide) ?_
      refine r_puti (pc := 23) (S2 := (rS S 6 0)) hO hr hA 6 rn_6 q2131 rfl (by first | assumption | exact hr.zA 0 _ | exact hr.zA 8 _ | exact hr.zA 9 _ | exact hr.zS _ | exact hMz _ | exact hMz1 _ | exact zw_R _ | (unfold zR; omega)) dX4_isWatched_23 (fun h hr => ?_)
      refine v_aload_n (pc := 26) hO dX4_isWatched_26 rfl ?_
      refine v_getf (pc := 27) (v := .inl 0) hO cp_X4 6 q2131 hr.ob (by decide) rfl dX4_isWatched_27 ?_
      refine v_if_ne (pc := 30) (tgt := 48) hO dX4_isWatched_30 (by decide) (by unfold zR; omega) (fun c30 => absurd c30 (by omega)) (fun c30 => ?_)
      refine v_aload_n (pc := 33) hO dX4_isWatched_33 rfl ?_
      refine v_iload_n (pc := 34) hO dX4_isWatched_34 rfl ?_
      refine v_iload_n (pc := 35) hO dX4_isWatched_35 rfl ?_
      refine v_iload_n (pc := 36) hO dX4_isWatched_36 rfl ?_
      refine v_callV (pc := 37) (b := am) hO cp_X4 hr.ob (m_watcher hr x y t (by omega) (by omega) (by omega) (by first | assumption | exact hr.zA 0 _ | exact hr.zA 8 _ | exact hr.zA 9 _ | exact hr.zS _ | exact hMz _ | exact hMz1 _ | (unfold zR; omega)) hpics) (lw_V q2329 q2331 qs49 q117 q2332) yo_X4_watcher rfl rfl rfl (by decide) (by decide) (k2 := 0) (n2 := 0) (by decide) (by decide) (by decide) (by decide) dX4_isWatched_37 (fun va hv hp hf1 => ?_)
      obtain ⟨rfl, rfl⟩ := hp
      have hw4 := wchM_in M x y t h3
      have hwz : zR (wchM M x y t) := (by unfold zR; omega)
      refine v_iconst (pc := 40) hO dX4_isWatched_40 ?_
      refine v_icmp_eq (pc := 41) (tgt := 48) hO dX4_isWatched_41 (by decide) (by first | assumption | exact hr.zA 0 _ | exact hr.zA 8 _ | exact hr.zA 9 _ | exact hr.zS _ | exact hMz _ | exact hMz1 _ | exact zw_R _ | (unfold zR; omega)) (by first | assumption | exact hr.zA 0 _ | exact hr.zA 8 _ | exact hr.zA 9 _ | exact hr.zS _ | exact hMz _ | exact hMz1 _ | exact zw_R _ | (unfold zR; omega)) (fun c41 => ?_) (fun c41 => ?_)
      · refine v_iconst (pc := 48) hO dX4_isWatched_48 ?_
        exact v_zret hO dX4_isWatched_49 rfl (by decide +kernel) (Nat.le_of_ble_eq_true rfl) (Nat.le_of_ble_eq_true rfl) (Or.inl ⟨by omega, (congrArg (fun z => some (Sum.inl z)) (by (repeat' split) <;> first | rfl | omega)), hr⟩)
      · refine v_iconst (pc := 44) hO dX4_isWatched_44 ?_
        refine v_goto (pc := 45) (tgt := 49) hO dX4_isWatched_45 (by decide) ?_
        exact v_zret hO dX4_isWatched_49 rfl (by decide +kernel) (Nat.le_of_ble_eq_true rfl) (Nat.le_of_ble_eq_true rfl) (Or.inl ⟨by omega, (congrArg (fun z => some (Sum.inl z)) (by (repeat' split) <;> first | rfl | omega)), hr⟩)
  · refine v_iconst (pc := 10) hO dX4_isWatched_10 ?_
    refine v_goto (pc := 11) (tgt := 23) hO dX4_isWatched_11 (by decide) ?_
    refine r_puti (pc := 23) (S2 := (rS S 6 1)) hO hr hA 6 rn_6 q2131 rfl (by first | assumption | exact hr.zA 0 _ | exact hr.zA 8 _ | exact hr.zA 9 _ | exact hr.zS _ | exact hMz _ | exact hMz1 _ | exact zw_R _ | (unfold zR; omega)) dX4_isWatched_23 (fun h hr => ?_)
    refine v_aload_n (pc := 26) hO dX4_isWatched_26 rfl ?_
    refine v_getf (pc := 27) (v := .inl 1) hO cp_X4 6 q2131 hr.ob (by decide) rfl dX4_isWatched_27 ?_
    refine v_if_ne (pc := 30) (tgt := 48) hO dX4_isWatched_30 (by decide) (by unfold zR; omega) (fun c30 => ?_) (fun c30 => absurd c30 (by omega))
    refine v_iconst (pc := 48) hO dX4_isWatched_48 ?_
    exact v_zret hO dX4_isWatched_49 rfl (by decide +kernel) (Nat.le_of_ble_eq_true rfl) (Nat.le_of_ble_eq_true rfl) (Or.inr (Or.inl ⟨by omega, (congrArg (fun z => some (Sum.inl z)) (by (repeat' split) <;> first | rfl | omega)), hr⟩))
theorem yo_X4_distance : yOK yX4_distance 4 := by unfold yOK; exact ⟨by decide +kernel, by decide +kernel, by decide +kernel⟩
set_option maxRecDepth 100000 in
theorem m_distance {G : GT} {h : AH} {am : Nat} {ad : Nat → Nat} {nmf : Int → Option Nat} {S : Nat → Int} {Ar : Nat → Int → Int} {M : Int → Int} (hr : RefAt G h am ad nmf S (rA Ar 0 M)) {A : Nat → Prop} (hA : ∀ q, RA am ad q → A q) (x y tx ty : Int) (zx : zR x) (zy : zR y) (ztx : zR tx) (zty : zR ty) (hB : Bq M) : CC G yX4_distance cX4_distance 5 (some .int) ({ frames := 6, cells := 0, slots := 0, locals := 128 } : Room) A [sref am, .inl x, .inl y, .inl tx, .inl ty] h (fun v h1 => ((cellP M x y ∧ cellP M tx ty) ∧ v = some (.inl (dstM M x y tx ty)) ∧ ∃ Ar2, RefAt G h1 am ad nmf (rS S 6 0) (rA Ar2 0 M) ∧ scr Ar2 Ar) ∨ (¬ (cellP M x y ∧ cellP M tx ty) ∧ v = some (.inl 0) ∧ ∃ Ar2, RefAt G h1 am ad nmf (rS S 6 1) (rA Ar2 0 M) ∧ scr Ar2 Ar)) := by
  refine CC.of (by decide +kernel) [(0, sref am), (1, .inl x), (2, .inl y), (3, .inl tx), (4, .inl ty)] rfl (Nat.le_of_ble_eq_true rfl) (fun X hnm hO => ?_)
  have hMz : ∀ z, zR (M z) := fun z => hr.zA 0 z
  have hd := hB.hd
  have h2 := hB.1.2.1
  have h4 := hB.h4
  have h5 := hB.1.2.2.2.1
  have h8 := hB.1.2.2.2.2.1
  have hpics := hB.pics
  have h3 := hpics.1
  have h7 := hB.h7
  refine v_aload_n (pc := 0) hO dX4_distance_0 rfl ?_
  refine v_iconst (pc := 1) hO dX4_distance_1 ?_
  refine r_puti (pc := 2) (S2 := (rS S 6 0)) hO hr hA 6 rn_6 q2131 rfl (by first | assumption | exact hr.zA 0 _ | exact hr.zA 8 _ | exact hr.zA 9 _ | exact hr.zS _ | exact hMz _ | exact hMz1 _ | exact zw_R _ | (unfold zR; omega)) dX4_distance_2 (fun h hr => ?_)
  refine v_aload_n (pc := 5) hO dX4_distance_5 rfl ?_
  refine v_iload_n (pc := 6) hO dX4_distance_6 rfl ?_
  refine v_iload_n (pc := 7) hO dX4_distance_7 rfl ?_
  refine v_callV (pc := 8) (b := am) hO cp_X4 hr.ob (m_isCell hr x y (by first | assumption | exact hr.zA 0 _ | exact hr.zA 8 _ | exact hr.zA 9 _ | exact hr.zS _ | exact hMz _ | exact hMz1 _ | (unfold zR; omega)) (by first | assumption | exact hr.zA 0 _ | exact hr.zA 8 _ | exact hr.zA 9 _ | exact hr.zS _ | exact hMz _ | exact hMz1 _ | (unfold zR; omega)) hd) (lw_V q2314 q2316 qs47 q117 q2317) yo_X4_isCell rfl rfl rfl (by decide) (by decide) (k2 := 0) (n2 := 0) (by decide) (by decide) (by decide) (by decide) dX4_distance_8 (fun va hv hp hf1 => ?_)
  obtain ⟨rfl, rfl⟩ := hp
  refine v_ifb_eq (pc := 11) (tgt := 24) hO dX4_distance_11 (by decide) (fun c11 => ?_) (fun c11 => ?_)
  · refine v_aload_n (pc := 24) hO dX4_distance_24 rfl ?_
    refine v_iconst (pc := 25) hO dX4_distance_25 ?_
    refine v_callV (pc := 26) (b := am) hO cp_X4 hr.ob (m_raise hr hA 1 (by unfold zR; omega)) (lw_V q2222 q2224 qs34 q117 q2225) yo_X4_raise rfl rfl rfl (by decide) (by decide) (k2 := 0) (n2 := 0) (by decide) (by decide) (by decide) (by decide) dX4_distance_26 (fun va hv hp hf1 => ?_)
    obtain ⟨rfl, hr⟩ := hp
    rw [rS_rS] at hr
    exact v_iret hO dX4_distance_29 rfl (Nat.le_of_ble_eq_true rfl) (Nat.le_of_ble_eq_true rfl) (Or.inr ⟨by omega, (congrArg (fun z => some (Sum.inl z)) (by (repeat' split) <;> first | rfl | omega)), _, hr, scr_rf Ar⟩)
  · refine v_aload_n (pc := 14) hO dX4_distance_14 rfl ?_
    refine v_iload_n (pc := 15) hO dX4_distance_15 rfl ?_
    refine v_iload (pc := 16) hO dX4_distance_16 rfl ?_
    refine v_callV (pc := 18) (b := am) hO cp_X4 hr.ob (m_isCell hr tx ty (by first | assumption | exact hr.zA 0 _ | exact hr.zA 8 _ | exact hr.zA 9 _ | exact hr.zS _ | exact hMz _ | exact hMz1 _ | (unfold zR; omega)) (by first | assumption | exact hr.zA 0 _ | exact hr.zA 8 _ | exact hr.zA 9 _ | exact hr.zS _ | exact hMz _ | exact hMz1 _ | (unfold zR; omega)) hd) (lw_V q2314 q2316 qs47 q117 q2317) yo_X4_isCell rfl rfl rfl (by decide) (by decide) (k2 := 0) (n2 := 0) (by decide) (by decide) (by decide) (by decide) dX4_distance_18 (fun va hv hp hf1 => ?_)
    obtain ⟨rfl, rfl⟩ := hp
    refine v_ifb_ne (pc := 21) (tgt := 30) hO dX4_distance_21 (by decide) (fun c21 => ?_) (fun c21 => ?_)
    · refine v_aload_n (pc := 30) hO dX4_distance_30 rfl ?_
      refine v_iload_n (pc := 31) hO dX4_distance_31 rfl ?_
      refine v_iload (pc := 32) hO dX4_distance_32 rfl ?_
      refine v_callV (pc := 34) (b := am) hO cp_X4 hr.ob (m_layFar hr.x89 hA tx ty (by first | assumption | exact hr.zA 0 _ | exact hr.zA 8 _ | exact hr.zA 9 _ | exact hr.zS _ | exact hMz _ | exact hMz1 _ | (unfold zR; omega)) (by first | assumption | exact hr.zA 0 _ | exact hr.zA 8 _ | exact hr.zA 9 _ | exact hr.zS _ | exact hMz _ | exact hMz1 _ | (unfold zR; omega)) hd) (lw_V q2342 q2344 qs51 q117 q2345) yo_X4_layFar rfl rfl rfl (by decide) (by decide) (k2 := 0) (n2 := 0) (by decide) (by decide) (by decide) (by decide) dX4_distance_34 (fun va hv hp hf1 => ?_)
      obtain ⟨rfl, hr⟩ := hp
      have hF := lay_agree hd tx ty (Ar 8) (Ar 9)
      have hscAr_1 := scr_89 Ar (layS M tx ty (Ar 8) (Ar 9)).1 (layS M tx ty (Ar 8) (Ar 9)).2.1
      obtain ⟨Ar_1, eAr_1⟩ : ∃ z, z = rA (rA Ar 9 (layS M tx ty (Ar 8) (Ar 9)).2.1) 8 (layS M tx ty (Ar 8) (Ar 9)).1 := ⟨_, rfl⟩
      have hF : ∀ z, 0 ≤ z → z < 144 → Ar_1 8 z = layM M tx ty z := fun z z0 z1 => (by rw [eAr_1]; exact hF z z0 z1)
      rw [← eAr_1] at hr hscAr_1
      refine v_aload_n (pc := 37) hO dX4_distance_37 rfl ?_
      refine v_getf (pc := 38) (v := sref (ad 8)) hO cp_X4 8 q2133 hr.ob (by decide) rfl dX4_distance_38 ?_
      refine v_bipush (pc := 41) hO dX4_distance_41 (by decide +kernel) ?_
      refine v_iload_n (pc := 43) hO dX4_distance_43 rfl ?_
      refine v_imul (pc := 44) hO dX4_distance_44 ?_
      refine v_iload_n (pc := 45) hO dX4_distance_45 rfl ?_
      refine v_iadd (pc := 46) hO dX4_distance_46 ?_
      refine r_iald (pc := 47) (w := (Ar_1 8) (12 * y + x)) (L := 144) hO hr 8 ri_8 rfl rfl (by omega) (by omega) dX4_distance_47 ?_
      refine v_sipush (pc := 48) hO dX4_distance_48 (by decide +kernel) ?_
      refine v_icmp_ne (pc := 51) (tgt := 58) hO dX4_distance_51 (by decide) (by first | assumption | exact hr.zA 0 _ | exact hr.zA 8 _ | exact hr.zA 9 _ | exact hr.zS _ | exact hMz _ | exact hMz1 _ | exact zw_R _ | (unfold zR; omega)) (by first | assumption | exact hr.zA 0 _ | exact hr.zA 8 _ | exact hr.zA 9 _ | exact hr.zS _ | exact hMz _ | exact hMz1 _ | exact zw_R _ | (unfold zR; omega)) (fun c51 => ?_) (fun c51 => ?_)
      · refine v_aload_n (pc := 58) hO dX4_distance_58 rfl ?_
        refine v_getf (pc := 59) (v := sref (ad 8)) hO cp_X4 8 q2133 hr.ob (by decide) rfl dX4_distance_59 ?_
        refine v_bipush (pc := 62) hO dX4_distance_62 (by decide +kernel) ?_
        refine v_iload_n (pc := 64) hO dX4_distance_64 rfl ?_
        refine v_imul (pc := 65) hO dX4_distance_65 ?_
        refine v_iload_n (pc := 66) hO dX4_distance_66 rfl ?_
        refine v_iadd (pc := 67) hO dX4_distance_67 ?_
        refine r_iald (pc := 68) (w := (Ar_1 8) (12 * y + x)) (L := 144) hO hr 8 ri_8 rfl rfl (by omega) (by omega) dX4_distance_68 ?_
        exact v_iret hO dX4_distance_69 rfl (Nat.le_of_ble_eq_true rfl) (Nat.le_of_ble_eq_true rfl) (Or.inl ⟨by omega, (congrArg (fun z => some (Sum.inl z)) (by have e9 := hF (12 * y + x) (by omega) (by omega); unfold dstM; rw [← e9]; (repeat' split) <;> first | rfl | omega)), _, hr, hscAr_1⟩)
      · refine v_iconst (pc := 54) hO dX4_distance_54 ?_
        refine v_goto (pc := 55) (tgt := 69) hO dX4_distance_55 (by decide) ?_
        exact v_iret hO dX4_distance_69 rfl (Nat.le_of_ble_eq_true rfl) (Nat.le_of_ble_eq_true rfl) (Or.inl ⟨by omega, (congrArg (fun z => some (Sum.inl z)) (by have e9 := hF (12 * y + x) (by omega) (by omega); unfold dstM; rw [← e9]; (repeat' split) <;> first | rfl | omega)), _, hr, hscAr_1⟩)
    · refine v_aload_n (pc := 24) hO dX4_distance_24 rfl ?_
      refine v_iconst (pc := 25) hO dX4_distance_25 ?_
      refine v_callV (pc := 26) (b := am) hO cp_X4 hr.ob (m_raise hr hA 1 (by unfold zR; omega)) (lw_V q2222 q2224 qs34 q117 q2225) yo_X4_raise rfl rfl rfl (by decide) (by decide) (k2 := 0) (n2 := 0) (by decide) (by decide) (by decide) (by decide) dX4_distance_26 (fun va hv hp hf1 => ?_)
      obtain ⟨rfl, hr⟩ := hp
      rw [rS_rS] at hr
      exact v_iret hO dX4_distance_29 rfl (Nat.le_of_ble_eq_true rfl) (Nat.le_of_ble_eq_true rfl) (Or.inr ⟨by omega, (congrArg (fun z => some (Sum.inl z)) (by (repeat' split) <;> first | rfl | omega)), _, hr, scr_rf Ar⟩)
theorem yo_X4_step : yOK yX4_step 4 := by unfold yOK; exact ⟨by decide +kernel, by decide +kernel, by decide +kernel⟩
set_option maxRecDepth 100000 in
theorem m_step {G : GT} {h : AH} {am : Nat} {ad : Nat → Nat} {nmf : Int → Option Nat} {S : Nat → Int} {Ar : Nat → Int → Int} {M : Int → Int} (hr : RefAt G h am ad nmf S (rA Ar 0 M)) {A : Nat → Prop} (hA : ∀ q, RA am ad q → A q) (x y tx ty : Int) (zx : zR x) (zy : zR y) (ztx : zR tx) (zty : zR ty) (hB : Bq M) : CC G yX4_step cX4_step 6 (some .int) ({ frames := 6, cells := 0, slots := 0, locals := 128 } : Room) A [sref am, .inl x, .inl y, .inl tx, .inl ty] h (fun v h1 => ((cellP M x y ∧ cellP M tx ty) ∧ v = some (.inl (sttM M x y tx ty)) ∧ ∃ Ar2, RefAt G h1 am ad nmf (rS S 6 0) (rA Ar2 0 M) ∧ scr Ar2 Ar) ∨ (¬ (cellP M x y ∧ cellP M tx ty) ∧ v = some (.inl 0) ∧ ∃ Ar2, RefAt G h1 am ad nmf (rS S 6 1) (rA Ar2 0 M) ∧ scr Ar2 Ar)) := by
  refine CC.of (by decide +kernel) [(0, sref am), (1, .inl x), (2, .inl y), (3, .inl tx), (4, .inl ty)] rfl (Nat.le_of_ble_eq_true rfl) (fun X hnm hO => ?_)
  have hMz : ∀ z, zR (M z) := fun z => hr.zA 0 z
  have hd := hB.hd
  have h2 := hB.1.2.1
  have h4 := hB.h4
  have h5 := hB.1.2.2.2.1
  have h8 := hB.1.2.2.2.2.1
  have hpics := hB.pics
  have h3 := hpics.1
  have h7 := hB.h7
  refine v_aload_n (pc := 0) hO dX4_step_0 rfl ?_
  refine v_iconst (pc := 1) hO dX4_step_1 ?_
  refine r_puti (pc := 2) (S2 := (rS S 6 0)) hO hr hA 6 rn_6 q2131 rfl (by first | assumption | exact hr.zA 0 _ | exact hr.zA 8 _ | exact hr.zA 9 _ | exact hr.zS _ | exact hMz _ | exact hMz1 _ | exact zw_R _ | (unfold zR; omega)) dX4_step_2 (fun h hr => ?_)
  refine v_aload_n (pc := 5) hO dX4_step_5 rfl ?_
  refine v_iload_n (pc := 6) hO dX4_step_6 rfl ?_
  refine v_iload_n (pc := 7) hO dX4_step_7 rfl ?_
  refine v_callV (pc := 8) (b := am) hO cp_X4 hr.ob (m_isCell hr x y (by first | assumption | exact hr.zA 0 _ | exact hr.zA 8 _ | exact hr.zA 9 _ | exact hr.zS _ | exact hMz _ | exact hMz1 _ | (unfold zR; omega)) (by first | assumption | exact hr.zA 0 _ | exact hr.zA 8 _ | exact hr.zA 9 _ | exact hr.zS _ | exact hMz _ | exact hMz1 _ | (unfold zR; omega)) hd) (lw_V q2314 q2316 qs47 q117 q2317) yo_X4_isCell rfl rfl rfl (by decide) (by decide) (k2 := 0) (n2 := 0) (by decide) (by decide) (by decide) (by decide) dX4_step_8 (fun va hv hp hf1 => ?_)
  obtain ⟨rfl, rfl⟩ := hp
  refine v_ifb_eq (pc := 11) (tgt := 24) hO dX4_step_11 (by decide) (fun c11 => ?_) (fun c11 => ?_)
  · refine v_aload_n (pc := 24) hO dX4_step_24 rfl ?_
    refine v_iconst (pc := 25) hO dX4_step_25 ?_
    refine v_callV (pc := 26) (b := am) hO cp_X4 hr.ob (m_raise hr hA 1 (by unfold zR; omega)) (lw_V q2222 q2224 qs34 q117 q2225) yo_X4_raise rfl rfl rfl (by decide) (by decide) (k2 := 0) (n2 := 0) (by decide) (by decide) (by decide) (by decide) dX4_step_26 (fun va hv hp hf1 => ?_)
    obtain ⟨rfl, hr⟩ := hp
    rw [rS_rS] at hr
    exact v_iret hO dX4_step_29 rfl (Nat.le_of_ble_eq_true rfl) (Nat.le_of_ble_eq_true rfl) (Or.inr ⟨by omega, (congrArg (fun z => some (Sum.inl z)) (by (repeat' split) <;> first | rfl | omega)), _, hr, scr_rf Ar⟩)
  · refine v_aload_n (pc := 14) hO dX4_step_14 rfl ?_
    refine v_iload_n (pc := 15) hO dX4_step_15 rfl ?_
    refine v_iload (pc := 16) hO dX4_step_16 rfl ?_
    refine v_callV (pc := 18) (b := am) hO cp_X4 hr.ob (m_isCell hr tx ty (by first | assumption | exact hr.zA 0 _ | exact hr.zA 8 _ | exact hr.zA 9 _ | exact hr.zS _ | exact hMz _ | exact hMz1 _ | (unfold zR; omega)) (by first | assumption | exact hr.zA 0 _ | exact hr.zA 8 _ | exact hr.zA 9 _ | exact hr.zS _ | exact hMz _ | exact hMz1 _ | (unfold zR; omega)) hd) (lw_V q2314 q2316 qs47 q117 q2317) yo_X4_isCell rfl rfl rfl (by decide) (by decide) (k2 := 0) (n2 := 0) (by decide) (by decide) (by decide) (by decide) dX4_step_18 (fun va hv hp hf1 => ?_)
    obtain ⟨rfl, rfl⟩ := hp
    refine v_ifb_ne (pc := 21) (tgt := 30) hO dX4_step_21 (by decide) (fun c21 => ?_) (fun c21 => ?_)
    · refine v_aload_n (pc := 30) hO dX4_step_30 rfl ?_
      refine v_iload_n (pc := 31) hO dX4_step_31 rfl ?_
      refine v_iload_n (pc := 32) hO dX4_step_32 rfl ?_
      refine v_callV (pc := 33) (b := am) hO cp_X4 hr.ob (m_isFree hr x y (by first | assumption | exact hr.zA 0 _ | exact hr.zA 8 _ | exact hr.zA 9 _ | exact hr.zS _ | exact hMz _ | exact hMz1 _ | (unfold zR; omega)) (by first | assumption | exact hr.zA 0 _ | exact hr.zA 8 _ | exact hr.zA 9 _ | exact hr.zS _ | exact hMz _ | exact hMz1 _ | (unfold zR; omega)) hd) (lw_V q2318 q2320 qs48 q117 q2321) yo_X4_isFree rfl rfl rfl (by decide) (by decide) (k2 := 0) (n2 := 0) (by decide) (by decide) (by decide) (by decide) dX4_step_33 (fun va hv hp hf1 => ?_)
      obtain ⟨rfl, rfl⟩ := hp
      refine v_ifb_eq (pc := 36) (tgt := 49) hO dX4_step_36 (by decide) (fun c36 => ?_) (fun c36 => ?_)
      · refine v_iconst (pc := 49) hO dX4_step_49 ?_
        exact v_iret hO dX4_step_50 rfl (Nat.le_of_ble_eq_true rfl) (Nat.le_of_ble_eq_true rfl) (Or.inl ⟨by omega, (congrArg (fun z => some (Sum.inl z)) (by unfold sttM; rw [if_pos (by omega)])), _, hr, scr_rf Ar⟩)
      · refine v_aload_n (pc := 39) hO dX4_step_39 rfl ?_
        refine v_iload_n (pc := 40) hO dX4_step_40 rfl ?_
        refine v_iload (pc := 41) hO dX4_step_41 rfl ?_
        refine v_callV (pc := 43) (b := am) hO cp_X4 hr.ob (m_isFree hr tx ty (by first | assumption | exact hr.zA 0 _ | exact hr.zA 8 _ | exact hr.zA 9 _ | exact hr.zS _ | exact hMz _ | exact hMz1 _ | (unfold zR; omega)) (by first | assumption | exact hr.zA 0 _ | exact hr.zA 8 _ | exact hr.zA 9 _ | exact hr.zS _ | exact hMz _ | exact hMz1 _ | (unfold zR; omega)) hd) (lw_V q2318 q2320 qs48 q117 q2321) yo_X4_isFree rfl rfl rfl (by decide) (by decide) (k2 := 0) (n2 := 0) (by decide) (by decide) (by decide) (by decide) dX4_step_43 (fun va hv hp hf1 => ?_)
        obtain ⟨rfl, rfl⟩ := hp
        refine v_ifb_ne (pc := 46) (tgt := 51) hO dX4_step_46 (by decide) (fun c46 => ?_) (fun c46 => ?_)
        · refine v_aload_n (pc := 51) hO dX4_step_51 rfl ?_
          refine v_iload_n (pc := 52) hO dX4_step_52 rfl ?_
          refine v_iload (pc := 53) hO dX4_step_53 rfl ?_
          refine v_callV (pc := 55) (b := am) hO cp_X4 hr.ob (m_layFar hr.x89 hA tx ty (by first | assumption | exact hr.zA 0 _ | exact hr.zA 8 _ | exact hr.zA 9 _ | exact hr.zS _ | exact hMz _ | exact hMz1 _ | (unfold zR; omega)) (by first | assumption | exact hr.zA 0 _ | exact hr.zA 8 _ | exact hr.zA 9 _ | exact hr.zS _ | exact hMz _ | exact hMz1 _ | (unfold zR; omega)) hd) (lw_V q2342 q2344 qs51 q117 q2345) yo_X4_layFar rfl rfl rfl (by decide) (by decide) (k2 := 0) (n2 := 0) (by decide) (by decide) (by decide) (by decide) dX4_step_55 (fun va hv hp hf1 => ?_)
          obtain ⟨rfl, hr⟩ := hp
          have hF := lay_agree hd tx ty (Ar 8) (Ar 9)
          have hscAr_1 := scr_89 Ar (layS M tx ty (Ar 8) (Ar 9)).1 (layS M tx ty (Ar 8) (Ar 9)).2.1
          obtain ⟨Ar_1, eAr_1⟩ : ∃ z, z = rA (rA Ar 9 (layS M tx ty (Ar 8) (Ar 9)).2.1) 8 (layS M tx ty (Ar 8) (Ar 9)).1 := ⟨_, rfl⟩
          have hF : ∀ z, 0 ≤ z → z < 144 → Ar_1 8 z = layM M tx ty z := fun z z0 z1 => (by rw [eAr_1]; exact hF z z0 z1)
          rw [← eAr_1] at hr hscAr_1
          refine v_aload_n (pc := 58) hO dX4_step_58 rfl ?_
          refine v_getf (pc := 59) (v := sref (ad 8)) hO cp_X4 8 q2133 hr.ob (by decide) rfl dX4_step_59 ?_
          refine v_bipush (pc := 62) hO dX4_step_62 (by decide +kernel) ?_
          refine v_iload_n (pc := 64) hO dX4_step_64 rfl ?_
          refine v_imul (pc := 65) hO dX4_step_65 ?_
          refine v_iload_n (pc := 66) hO dX4_step_66 rfl ?_
          refine v_iadd (pc := 67) hO dX4_step_67 ?_
          refine r_iald (pc := 68) (w := (Ar_1 8) (12 * y + x)) (L := 144) hO hr 8 ri_8 rfl rfl (by omega) (by omega) dX4_step_68 ?_
          refine v_if_ne (pc := 69) (tgt := 79) hO dX4_step_69 (by decide) (by first | assumption | exact hr.zA 0 _ | exact hr.zA 8 _ | exact hr.zA 9 _ | exact hr.zS _ | exact hMz _ | exact hMz1 _ | exact zw_R _ | (unfold zR; omega)) (fun c69 => ?_) (fun c69 => ?_)
          · refine v_aload_n (pc := 79) hO dX4_step_79 rfl ?_
            refine v_iload_n (pc := 80) hO dX4_step_80 rfl ?_
            refine v_iload_n (pc := 81) hO dX4_step_81 rfl ?_
            refine v_callV (pc := 82) (b := am) hO cp_X4 hr.ob (m_stepFrom hr x y (by omega) (by omega) hd) (lw_V q2357 q2359 qs53 q117 q2360) yo_X4_stepFrom rfl rfl rfl (by decide) (by decide) (k2 := 0) (n2 := 0) (by decide) (by decide) (by decide) (by decide) dX4_step_82 (fun va hv hp hf1 => ?_)
            obtain ⟨rfl, rfl⟩ := hp
            have hF2 := hF
            obtain ⟨d, ed⟩ : ∃ z, z = sttD M x y tx ty := ⟨_, rfl⟩
            refine v_ttop (w := d) ((stpM_congr hd (by omega) (by omega) hF).trans ed.symm) ?_
            have hd4 : d = -1 ∨ (0 ≤ d ∧ d < 4 ∧ freM M (x + dX d) (y + dY d)) := (by rw [ed]; exact stpM_in _ _ _ _)
            have hdz : zR d := (by unfold zR; omega)
            refine v_istore (pc := 85) hO (lv' := [(5, .inl d), (0, sref am), (1, .inl x), (2, .inl y), (3, .inl tx), (4, .inl ty)]) dX4_step_85 (by decide) rfl ?_
            refine v_iload (pc := 87) hO dX4_step_87 rfl ?_
            refine v_iconst (pc := 89) hO dX4_step_89 ?_
            refine v_icmp_ne (pc := 90) (tgt := 97) hO dX4_step_90 (by decide) (by first | assumption | exact hr.zA 0 _ | exact hr.zA 8 _ | exact hr.zA 9 _ | exact hr.zS _ | exact hMz _ | exact hMz1 _ | exact zw_R _ | (unfold zR; omega)) (by first | assumption | exact hr.zA 0 _ | exact hr.zA 8 _ | exact hr.zA 9 _ | exact hr.zS _ | exact hMz _ | exact hMz1 _ | exact zw_R _ | (unfold zR; omega)) (fun c90 => ?_) (fun c90 => ?_)
            · have e1 := dX_R d
              have e2 := dY_R d
              refine v_bipush (pc := 97) hO dX4_step_97 (by decide +kernel) ?_
              refine v_iload_n (pc := 99) hO dX4_step_99 rfl ?_
              refine v_iload (pc := 100) hO dX4_step_100 rfl ?_
              refine v_iconst (pc := 102) hO dX4_step_102 ?_
              refine v_callS (pc := 103) hO (m_besideY d (by first | assumption | exact hr.zA 0 _ | exact hr.zA 8 _ | exact hr.zA 9 _ | exact hr.zS _ | exact hMz _ | exact hMz1 _ | (unfold zR; omega))) (lw_S q2350 q2351 q117 q2352) yo_X4_beside rfl rfl (by decide) (by decide) (k2 := 0) (n2 := 0) (by decide) (by decide) (by decide) (by decide) dX4_step_103 (fun va hv hp hf1 => ?_)
              obtain ⟨rfl, rfl⟩ := hp
              refine v_iadd (pc := 106) hO dX4_step_106 ?_
              refine v_imul (pc := 107) hO dX4_step_107 ?_
              refine v_iload_n (pc := 108) hO dX4_step_108 rfl ?_
              refine v_iadd (pc := 109) hO dX4_step_109 ?_
              refine v_iload (pc := 110) hO dX4_step_110 rfl ?_
              refine v_iconst (pc := 112) hO dX4_step_112 ?_
              refine v_callS (pc := 113) hO (m_besideX d (by first | assumption | exact hr.zA 0 _ | exact hr.zA 8 _ | exact hr.zA 9 _ | exact hr.zS _ | exact hMz _ | exact hMz1 _ | (unfold zR; omega))) (lw_S q2350 q2351 q117 q2352) yo_X4_beside rfl rfl (by decide) (by decide) (k2 := 0) (n2 := 0) (by decide) (by decide) (by decide) (by decide) dX4_step_113 (fun va hv hp hf1 => ?_)
              obtain ⟨rfl, rfl⟩ := hp
              refine v_iadd (pc := 116) hO dX4_step_116 ?_
              exact v_iret hO dX4_step_117 rfl (Nat.le_of_ble_eq_true rfl) (Nat.le_of_ble_eq_true rfl) (Or.inl ⟨by omega, (congrArg (fun z => some (Sum.inl z)) (by have e9 := hF (12 * y + x) (by omega) (by omega); unfold sttM; rw [if_neg (by omega), if_neg (by omega), ← ed, if_neg (by omega)])), _, hr, hscAr_1⟩)
            · refine v_iconst (pc := 93) hO dX4_step_93 ?_
              refine v_goto (pc := 94) (tgt := 117) hO dX4_step_94 (by decide) ?_
              exact v_iret hO dX4_step_117 rfl (Nat.le_of_ble_eq_true rfl) (Nat.le_of_ble_eq_true rfl) (Or.inl ⟨by omega, (congrArg (fun z => some (Sum.inl z)) (by have e9 := hF (12 * y + x) (by omega) (by omega); unfold sttM; rw [if_neg (by omega), if_neg (by omega), ← ed, if_pos (by omega)])), _, hr, hscAr_1⟩)
          · refine v_bipush (pc := 72) hO dX4_step_72 (by decide +kernel) ?_
            refine v_iload_n (pc := 74) hO dX4_step_74 rfl ?_
            refine v_imul (pc := 75) hO dX4_step_75 ?_
            refine v_iload_n (pc := 76) hO dX4_step_76 rfl ?_
            refine v_iadd (pc := 77) hO dX4_step_77 ?_
            exact v_iret hO dX4_step_78 rfl (Nat.le_of_ble_eq_true rfl) (Nat.le_of_ble_eq_true rfl) (Or.inl ⟨by omega, (congrArg (fun z => some (Sum.inl z)) (by have e9 := hF (12 * y + x) (by omega) (by omega); unfold sttM; rw [if_neg (by omega), if_pos (by omega)])), _, hr, hscAr_1⟩)
        · refine v_iconst (pc := 49) hO dX4_step_49 ?_
          exact v_iret hO dX4_step_50 rfl (Nat.le_of_ble_eq_true rfl) (Nat.le_of_ble_eq_true rfl) (Or.inl ⟨by omega, (congrArg (fun z => some (Sum.inl z)) (by unfold sttM; rw [if_pos (by omega)])), _, hr, scr_rf Ar⟩)
    · refine v_aload_n (pc := 24) hO dX4_step_24 rfl ?_
      refine v_iconst (pc := 25) hO dX4_step_25 ?_
      refine v_callV (pc := 26) (b := am) hO cp_X4 hr.ob (m_raise hr hA 1 (by unfold zR; omega)) (lw_V q2222 q2224 qs34 q117 q2225) yo_X4_raise rfl rfl rfl (by decide) (by decide) (k2 := 0) (n2 := 0) (by decide) (by decide) (by decide) (by decide) dX4_step_26 (fun va hv hp hf1 => ?_)
      obtain ⟨rfl, hr⟩ := hp
      rw [rS_rS] at hr
      exact v_iret hO dX4_step_29 rfl (Nat.le_of_ble_eq_true rfl) (Nat.le_of_ble_eq_true rfl) (Or.inr ⟨by omega, (congrArg (fun z => some (Sum.inl z)) (by (repeat' split) <;> first | rfl | omega)), _, hr, scr_rf Ar⟩)
theorem yo_X4_wasAt : yOK yX4_wasAt 2 := by unfold yOK; exact ⟨by decide +kernel, by decide +kernel, by decide +kernel⟩
set_option maxRecDepth 100000 in
theorem m_wasAt {G : GT} {h : AH} {am : Nat} {ad : Nat → Nat} {nmf : Int → Option Nat} {S : Nat → Int} {Ar : Nat → Int → Int} {M : Int → Int} (hr : RefAt G h am ad nmf S (rA Ar 0 M)) {A : Nat → Prop} (hA : ∀ q, RA am ad q → A q) (a t : Int) (za : zR a) (zt : zR t) (hB : Bq M) (hT : M 5 ≤ 500) : CC G yX4_wasAt cX4_wasAt 3 (some .int) ({ frames := 3, cells := 0, slots := 0, locals := 55 } : Room) A [sref am, .inl a, .inl t] h (fun v h1 => (((inb a 0 (M 2 - 1)) ∧ inb t 0 (M 5)) ∧ v = some (.inl (M (928 + 501 * a + t))) ∧ RefAt G h1 am ad nmf (rS S 6 0) (rA Ar 0 M)) ∨ (¬ (inb a 0 (M 2 - 1)) ∧ v = some (.inl 0) ∧ RefAt G h1 am ad nmf (rS S 6 1) (rA Ar 0 M)) ∨ (((inb a 0 (M 2 - 1)) ∧ ¬ (inb t 0 (M 5))) ∧ v = some (.inl 0) ∧ RefAt G h1 am ad nmf (rS S 6 2) (rA Ar 0 M))) := by
  refine CC.of (by decide +kernel) [(0, sref am), (1, .inl a), (2, .inl t)] rfl (Nat.le_of_ble_eq_true rfl) (fun X hnm hO => ?_)
  have hMz : ∀ z, zR (M z) := fun z => hr.zA 0 z
  have hd := hB.hd
  have h2 := hB.1.2.1
  have h4 := hB.h4
  have h5 := hB.1.2.2.2.1
  have h8 := hB.1.2.2.2.2.1
  have hpics := hB.pics
  have h3 := hpics.1
  have h7 := hB.h7
  refine v_aload_n (pc := 0) hO dX4_wasAt_0 rfl ?_
  refine v_aload_n (pc := 1) hO dX4_wasAt_1 rfl ?_
  refine v_iload_n (pc := 2) hO dX4_wasAt_2 rfl ?_
  refine v_callV (pc := 3) (b := am) hO cp_X4 hr.ob (m_isUnit hr a (by first | assumption | exact hr.zA 0 _ | exact hr.zA 8 _ | exact hr.zA 9 _ | exact hr.zS _ | exact hMz _ | exact hMz1 _ | (unfold zR; omega)) (by omega)) (lw_V q2230 q2232 qs35 q117 q2233) yo_X4_isUnit rfl rfl rfl (by decide) (by decide) (k2 := 0) (n2 := 0) (by decide) (by decide) (by decide) (by decide) dX4_wasAt_3 (fun va hv hp hf1 => ?_)
  obtain ⟨rfl, rfl⟩ := hp
  refine v_ifb_ne (pc := 6) (tgt := 13) hO dX4_wasAt_6 (by decide) (fun c6 => ?_) (fun c6 => ?_)
  · refine v_iload_n (pc := 13) hO dX4_wasAt_13 rfl ?_
    refine v_iconst (pc := 14) hO dX4_wasAt_14 ?_
    refine v_aload_n (pc := 15) hO dX4_wasAt_15 rfl ?_
    refine v_callV (pc := 16) (b := am) hO cp_X4 hr.ob (m_turnNow hr) (lw_V q2264 q2266 qs41 q117 q2267) yo_X4_turnNow rfl rfl rfl (by decide) (by decide) (k2 := 0) (n2 := 0) (by decide) (by decide) (by decide) (by decide) dX4_wasAt_16 (fun va hv hp hf1 => ?_)
    obtain ⟨rfl, rfl⟩ := hp
    refine v_callS (pc := 19) hO (m_inRange t 0 (M 5) (by first | assumption | exact hr.zA 0 _ | exact hr.zA 8 _ | exact hr.zA 9 _ | exact hr.zS _ | exact hMz _ | exact hMz1 _ | (unfold zR; omega)) (by first | assumption | exact hr.zA 0 _ | exact hr.zA 8 _ | exact hr.zA 9 _ | exact hr.zS _ | exact hMz _ | exact hMz1 _ | (unfold zR; omega)) (by first | assumption | exact hr.zA 0 _ | exact hr.zA 8 _ | exact hr.zA 9 _ | exact hr.zS _ | exact hMz _ | exact hMz1 _ | (unfold zR; omega))) (lw_S q2219 q2220 q117 q2221) yo_X4_inRange rfl rfl (by decide) (by decide) (k2 := 0) (n2 := 0) (by decide) (by decide) (by decide) (by decide) dX4_wasAt_19 (fun va hv hp hf1 => ?_)
    obtain ⟨rfl, rfl⟩ := hp
    refine v_ifb_eq (pc := 22) (tgt := 29) hO dX4_wasAt_22 (by decide) (fun c22 => ?_) (fun c22 => ?_)
    · refine v_iconst (pc := 29) hO dX4_wasAt_29 ?_
      refine r_puti (pc := 30) (S2 := (rS S 6 2)) hO hr hA 6 rn_6 q2131 rfl (by first | assumption | exact hr.zA 0 _ | exact hr.zA 8 _ | exact hr.zA 9 _ | exact hr.zS _ | exact hMz _ | exact hMz1 _ | exact zw_R _ | (unfold zR; omega)) dX4_wasAt_30 (fun h hr => ?_)
      refine v_aload_n (pc := 33) hO dX4_wasAt_33 rfl ?_
      refine v_getf (pc := 34) (v := .inl 2) hO cp_X4 6 q2131 hr.ob (by decide) rfl dX4_wasAt_34 ?_
      refine v_if_ne (pc := 37) (tgt := 53) hO dX4_wasAt_37 (by decide) (by unfold zR; omega) (fun c37 => ?_) (fun c37 => absurd c37 (by omega))
      refine v_iconst (pc := 53) hO dX4_wasAt_53 ?_
      exact v_iret hO dX4_wasAt_54 rfl (Nat.le_of_ble_eq_true rfl) (Nat.le_of_ble_eq_true rfl) (Or.inr (Or.inr ⟨by omega, (congrArg (fun z => some (Sum.inl z)) (by (repeat' split) <;> first | rfl | omega)), hr⟩))
    · refine v_iconst (pc := 25) hO dX4_wasAt_25 ?_
      refine v_goto (pc := 26) (tgt := 30) hO dX4_wasAt_26 (by decide) ?_
      refine r_puti (pc := 30) (S2 := (rS S 6 0)) hO hr hA 6 rn_6 q2131 rfl (by first | assumption | exact hr.zA 0 _ | exact hr.zA 8 _ | exact hr.zA 9 _ | exact hr.zS _ | exact hMz _ | exact hMz1 _ | exact zw_R _ | (unfold zR; omega)) dX4_wasAt_30 (fun h hr => ?_)
      refine v_aload_n (pc := 33) hO dX4_wasAt_33 rfl ?_
      refine v_getf (pc := 34) (v := .inl 0) hO cp_X4 6 q2131 hr.ob (by decide) rfl dX4_wasAt_34 ?_
      refine v_if_ne (pc := 37) (tgt := 53) hO dX4_wasAt_37 (by decide) (by unfold zR; omega) (fun c37 => absurd c37 (by omega)) (fun c37 => ?_)
      refine v_aload_n (pc := 40) hO dX4_wasAt_40 rfl ?_
      refine v_getf (pc := 41) (v := sref (ad 0)) hO cp_X4 0 q2125 hr.ob (by decide) rfl dX4_wasAt_41 ?_
      refine v_iload_n (pc := 44) hO dX4_wasAt_44 rfl ?_
      refine v_iload_n (pc := 45) hO dX4_wasAt_45 rfl ?_
      refine v_callS (pc := 46) hO (m_wasSlot a t) (lw_S q2365 q2366 q117 q2367) yo_X4_wasSlot rfl rfl (by decide) (by decide) (k2 := 0) (n2 := 0) (by decide) (by decide) (by decide) (by decide) dX4_wasAt_46 (fun va hv hp hf1 => ?_)
      obtain ⟨rfl, rfl⟩ := hp
      refine r_iald (pc := 49) (w := M (928 + 501 * a + t)) (L := 3934) hO hr 0 ri_0 rfl rfl (by omega) (by omega) dX4_wasAt_49 ?_
      refine v_goto (pc := 50) (tgt := 54) hO dX4_wasAt_50 (by decide) ?_
      exact v_iret hO dX4_wasAt_54 rfl (Nat.le_of_ble_eq_true rfl) (Nat.le_of_ble_eq_true rfl) (Or.inl ⟨by omega, (congrArg (fun z => some (Sum.inl z)) (by (repeat' split) <;> first | rfl | omega)), hr⟩)
  · refine v_iconst (pc := 9) hO dX4_wasAt_9 ?_
    refine v_goto (pc := 10) (tgt := 30) hO dX4_wasAt_10 (by decide) ?_
    refine r_puti (pc := 30) (S2 := (rS S 6 1)) hO hr hA 6 rn_6 q2131 rfl (by first | assumption | exact hr.zA 0 _ | exact hr.zA 8 _ | exact hr.zA 9 _ | exact hr.zS _ | exact hMz _ | exact hMz1 _ | exact zw_R _ | (unfold zR; omega)) dX4_wasAt_30 (fun h hr => ?_)
    refine v_aload_n (pc := 33) hO dX4_wasAt_33 rfl ?_
    refine v_getf (pc := 34) (v := .inl 1) hO cp_X4 6 q2131 hr.ob (by decide) rfl dX4_wasAt_34 ?_
    refine v_if_ne (pc := 37) (tgt := 53) hO dX4_wasAt_37 (by decide) (by unfold zR; omega) (fun c37 => ?_) (fun c37 => absurd c37 (by omega))
    refine v_iconst (pc := 53) hO dX4_wasAt_53 ?_
    exact v_iret hO dX4_wasAt_54 rfl (Nat.le_of_ble_eq_true rfl) (Nat.le_of_ble_eq_true rfl) (Or.inr (Or.inl ⟨by omega, (congrArg (fun z => some (Sum.inl z)) (by (repeat' split) <;> first | rfl | omega)), hr⟩))
theorem yo_X4_stateAt : yOK yX4_stateAt 2 := by unfold yOK; exact ⟨by decide +kernel, by decide +kernel, by decide +kernel⟩
set_option maxRecDepth 100000 in
theorem m_stateAt {G : GT} {h : AH} {am : Nat} {ad : Nat → Nat} {nmf : Int → Option Nat} {S : Nat → Int} {Ar : Nat → Int → Int} {M : Int → Int} (hr : RefAt G h am ad nmf S (rA Ar 0 M)) {A : Nat → Prop} (hA : ∀ q, RA am ad q → A q) (a t : Int) (za : zR a) (zt : zR t) (hB : Bq M)  : CC G yX4_stateAt cX4_stateAt 6 (some .int) ({ frames := 3, cells := 0, slots := 0, locals := 55 } : Room) A [sref am, .inl a, .inl t] h (fun v h1 => (((inb a 0 (M 4 - 1)) ∧ inb t 0 (M 5)) ∧ v = some (.inl (staM M a t)) ∧ RefAt G h1 am ad nmf (rS S 6 0) (rA Ar 0 M)) ∨ (¬ (inb a 0 (M 4 - 1)) ∧ v = some (.inl 0) ∧ RefAt G h1 am ad nmf (rS S 6 1) (rA Ar 0 M)) ∨ (((inb a 0 (M 4 - 1)) ∧ ¬ (inb t 0 (M 5))) ∧ v = some (.inl 0) ∧ RefAt G h1 am ad nmf (rS S 6 2) (rA Ar 0 M))) := by
  refine CC.of (by decide +kernel) [(0, sref am), (1, .inl a), (2, .inl t)] rfl (Nat.le_of_ble_eq_true rfl) (fun X hnm hO => ?_)
  have hMz : ∀ z, zR (M z) := fun z => hr.zA 0 z
  have hd := hB.hd
  have h2 := hB.1.2.1
  have h4 := hB.h4
  have h5 := hB.1.2.2.2.1
  have h8 := hB.1.2.2.2.2.1
  have hpics := hB.pics
  have h3 := hpics.1
  have h7 := hB.h7
  refine v_aload_n (pc := 0) hO dX4_stateAt_0 rfl ?_
  refine v_aload_n (pc := 1) hO dX4_stateAt_1 rfl ?_
  refine v_iload_n (pc := 2) hO dX4_stateAt_2 rfl ?_
  refine v_callV (pc := 3) (b := am) hO cp_X4 hr.ob (m_isOrder hr a (by first | assumption | exact hr.zA 0 _ | exact hr.zA 8 _ | exact hr.zA 9 _ | exact hr.zS _ | exact hMz _ | exact hMz1 _ | (unfold zR; omega)) (by omega)) (lw_V q2283 q2285 qs44 q117 q2286) yo_X4_isOrder rfl rfl rfl (by decide) (by decide) (k2 := 0) (n2 := 0) (by decide) (by decide) (by decide) (by decide) dX4_stateAt_3 (fun va hv hp hf1 => ?_)
  obtain ⟨rfl, rfl⟩ := hp
  refine v_ifb_ne (pc := 6) (tgt := 13) hO dX4_stateAt_6 (by decide) (fun c6 => ?_) (fun c6 => ?_)
  · refine v_iload_n (pc := 13) hO dX4_stateAt_13 rfl ?_
    refine v_iconst (pc := 14) hO dX4_stateAt_14 ?_
    refine v_aload_n (pc := 15) hO dX4_stateAt_15 rfl ?_
    refine v_callV (pc := 16) (b := am) hO cp_X4 hr.ob (m_turnNow hr) (lw_V q2264 q2266 qs41 q117 q2267) yo_X4_turnNow rfl rfl rfl (by decide) (by decide) (k2 := 0) (n2 := 0) (by decide) (by decide) (by decide) (by decide) dX4_stateAt_16 (fun va hv hp hf1 => ?_)
    obtain ⟨rfl, rfl⟩ := hp
    refine v_callS (pc := 19) hO (m_inRange t 0 (M 5) (by first | assumption | exact hr.zA 0 _ | exact hr.zA 8 _ | exact hr.zA 9 _ | exact hr.zS _ | exact hMz _ | exact hMz1 _ | (unfold zR; omega)) (by first | assumption | exact hr.zA 0 _ | exact hr.zA 8 _ | exact hr.zA 9 _ | exact hr.zS _ | exact hMz _ | exact hMz1 _ | (unfold zR; omega)) (by first | assumption | exact hr.zA 0 _ | exact hr.zA 8 _ | exact hr.zA 9 _ | exact hr.zS _ | exact hMz _ | exact hMz1 _ | (unfold zR; omega))) (lw_S q2219 q2220 q117 q2221) yo_X4_inRange rfl rfl (by decide) (by decide) (k2 := 0) (n2 := 0) (by decide) (by decide) (by decide) (by decide) dX4_stateAt_19 (fun va hv hp hf1 => ?_)
    obtain ⟨rfl, rfl⟩ := hp
    refine v_ifb_eq (pc := 22) (tgt := 29) hO dX4_stateAt_22 (by decide) (fun c22 => ?_) (fun c22 => ?_)
    · refine v_iconst (pc := 29) hO dX4_stateAt_29 ?_
      refine r_puti (pc := 30) (S2 := (rS S 6 2)) hO hr hA 6 rn_6 q2131 rfl (by first | assumption | exact hr.zA 0 _ | exact hr.zA 8 _ | exact hr.zA 9 _ | exact hr.zS _ | exact hMz _ | exact hMz1 _ | exact zw_R _ | (unfold zR; omega)) dX4_stateAt_30 (fun h hr => ?_)
      refine v_aload_n (pc := 33) hO dX4_stateAt_33 rfl ?_
      refine v_getf (pc := 34) (v := .inl 2) hO cp_X4 6 q2131 hr.ob (by decide) rfl dX4_stateAt_34 ?_
      refine v_if_eq (pc := 37) (tgt := 42) hO dX4_stateAt_37 (by decide) (by unfold zR; omega) (fun c37 => absurd c37 (by omega)) (fun c37 => ?_)
      refine v_iconst (pc := 40) hO dX4_stateAt_40 ?_
      exact v_iret hO dX4_stateAt_41 rfl (Nat.le_of_ble_eq_true rfl) (Nat.le_of_ble_eq_true rfl) (Or.inr (Or.inr ⟨by omega, (congrArg (fun z => some (Sum.inl z)) (by (repeat' split) <;> first | rfl | omega)), hr⟩))
    · refine v_iconst (pc := 25) hO dX4_stateAt_25 ?_
      refine v_goto (pc := 26) (tgt := 30) hO dX4_stateAt_26 (by decide) ?_
      refine r_puti (pc := 30) (S2 := (rS S 6 0)) hO hr hA 6 rn_6 q2131 rfl (by first | assumption | exact hr.zA 0 _ | exact hr.zA 8 _ | exact hr.zA 9 _ | exact hr.zS _ | exact hMz _ | exact hMz1 _ | exact zw_R _ | (unfold zR; omega)) dX4_stateAt_30 (fun h hr => ?_)
      refine v_aload_n (pc := 33) hO dX4_stateAt_33 rfl ?_
      refine v_getf (pc := 34) (v := .inl 0) hO cp_X4 6 q2131 hr.ob (by decide) rfl dX4_stateAt_34 ?_
      refine v_if_eq (pc := 37) (tgt := 42) hO dX4_stateAt_37 (by decide) (by unfold zR; omega) (fun c37 => ?_) (fun c37 => absurd c37 (by omega))
      refine v_iload_n (pc := 42) hO dX4_stateAt_42 rfl ?_
      refine v_aload_n (pc := 43) hO dX4_stateAt_43 rfl ?_
      refine v_iload_n (pc := 44) hO dX4_stateAt_44 rfl ?_
      refine v_iconst (pc := 45) hO dX4_stateAt_45 ?_
      refine v_callV (pc := 46) (b := am) hO cp_X4 hr.ob (m_ofOrder hr a 4 (by omega) (by omega)) (lw_V q2245 q2247 qs38 q117 q2248) yo_X4_ofOrder rfl rfl rfl (by decide) (by decide) (k2 := 0) (n2 := 0) (by decide) (by decide) (by decide) (by decide) dX4_stateAt_46 (fun va hv hp hf1 => ?_)
      obtain ⟨rfl, rfl⟩ := hp
      refine v_icmp_le (pc := 49) (tgt := 56) hO dX4_stateAt_49 (by decide) (by first | assumption | exact hr.zA 0 _ | exact hr.zA 8 _ | exact hr.zA 9 _ | exact hr.zS _ | exact hMz _ | exact hMz1 _ | exact zw_R _ | (unfold zR; omega)) (by first | assumption | exact hr.zA 0 _ | exact hr.zA 8 _ | exact hr.zA 9 _ | exact hr.zS _ | exact hMz _ | exact hMz1 _ | exact zw_R _ | (unfold zR; omega)) (fun c49 => ?_) (fun c49 => ?_)
      · refine v_iconst (pc := 56) hO dX4_stateAt_56 ?_
        refine v_istore_n (pc := 57) hO (lv' := [(3, .inl ((-1))), (0, sref am), (1, .inl a), (2, .inl t)]) dX4_stateAt_57 (by decide) rfl ?_
        refine v_iconst (pc := 58) hO dX4_stateAt_58 ?_
        refine v_istore (pc := 59) hO (lv' := [(4, .inl 0), (3, .inl ((-1))), (0, sref am), (1, .inl a), (2, .inl t)]) dX4_stateAt_59 (by decide) rfl ?_
        refine v_pick (lv2 := [(0, sref am), (1, .inl a), (2, .inl t), (3, .inl (((-1)))), (4, .inl 0)]) [2, 3, 4, 1, 0] rfl ?_
        refine v_loop (σ := Int × Int) (fun (e, s) => 0 ≤ e ∧ e ≤ M 7 ∧ staM M a t = itI (staF M a t) (M 7 - e).toNat e s) (fun (e, s) => (M 7 - e).toNat) (fun (e, s) => h) (fun (e, s) => [(0, sref am), (1, .inl a), (2, .inl t), (3, .inl s), (4, .inl e)]) (0, (-1)) ⟨Int.le_refl _, (by omega), (by unfold staM; rw [if_neg (by omega)])⟩ ?_
        rintro ⟨e, s⟩ ⟨hi0, hi1, hg⟩ ih
        show VV X G A _ _ _ h _ _ 61 [(0, sref am), (1, .inl a), (2, .inl t), (3, .inl s), (4, .inl e)] []
        refine v_iload (pc := 61) hO dX4_stateAt_61 rfl ?_
        refine v_aload_n (pc := 63) hO dX4_stateAt_63 rfl ?_
        refine v_getf (pc := 64) (v := sref (ad 0)) hO cp_X4 0 q2125 hr.ob (by decide) rfl dX4_stateAt_64 ?_
        refine v_bipush (pc := 67) hO dX4_stateAt_67 (by decide +kernel) ?_
        refine r_iald (pc := 69) (w := M 7) (L := 3934) hO hr 0 ri_0 rfl rfl (by omega) (by omega) dX4_stateAt_69 ?_
        refine v_icmp_ge (pc := 70) (tgt := 127) hO dX4_stateAt_70 (by decide) (by first | assumption | exact hr.zA 0 _ | exact hr.zA 8 _ | exact hr.zA 9 _ | exact hr.zS _ | exact hMz _ | exact hMz1 _ | exact zw_R _ | (unfold zR; omega)) (by first | assumption | exact hr.zA 0 _ | exact hr.zA 8 _ | exact hr.zA 9 _ | exact hr.zS _ | exact hMz _ | exact hMz1 _ | exact zw_R _ | (unfold zR; omega)) (fun c70 => ?_) (fun c70 => ?_)
        · refine v_iload_n (pc := 127) hO dX4_stateAt_127 rfl ?_
          exact v_iret hO dX4_stateAt_128 rfl (Nat.le_of_ble_eq_true rfl) (Nat.le_of_ble_eq_true rfl) (Or.inl ⟨by omega, congrArg (fun z => some (Sum.inl z)) (hg.trans (itI_e (by omega))).symm, hr⟩)
        · refine v_sipush (pc := 73) hO dX4_stateAt_73 (by decide +kernel) ?_
          refine v_iconst (pc := 76) hO dX4_stateAt_76 ?_
          refine v_iload (pc := 77) hO dX4_stateAt_77 rfl ?_
          refine v_imul (pc := 79) hO dX4_stateAt_79 ?_
          refine v_iadd (pc := 80) hO dX4_stateAt_80 ?_
          refine v_istore (pc := 81) hO (lv' := [(5, .inl (544 + (3 * e))), (0, sref am), (1, .inl a), (2, .inl t), (3, .inl s), (4, .inl e)]) dX4_stateAt_81 (by decide) rfl ?_
          refine v_aload_n (pc := 83) hO dX4_stateAt_83 rfl ?_
          refine v_getf (pc := 84) (v := sref (ad 0)) hO cp_X4 0 q2125 hr.ob (by decide) rfl dX4_stateAt_84 ?_
          refine v_iload (pc := 87) hO dX4_stateAt_87 rfl ?_
          refine v_iconst (pc := 89) hO dX4_stateAt_89 ?_
          refine v_iadd (pc := 90) hO dX4_stateAt_90 ?_
          refine r_iald (pc := 91) (w := M (544 + (3 * e) + 1)) (L := 3934) hO hr 0 ri_0 rfl rfl (by omega) (by omega) dX4_stateAt_91 ?_
          refine v_iload_n (pc := 92) hO dX4_stateAt_92 rfl ?_
          refine v_icmp_ne (pc := 93) (tgt := 119) hO dX4_stateAt_93 (by decide) (by first | assumption | exact hr.zA 0 _ | exact hr.zA 8 _ | exact hr.zA 9 _ | exact hr.zS _ | exact hMz _ | exact hMz1 _ | exact zw_R _ | (unfold zR; omega)) (by first | assumption | exact hr.zA 0 _ | exact hr.zA 8 _ | exact hr.zA 9 _ | exact hr.zS _ | exact hMz _ | exact hMz1 _ | exact zw_R _ | (unfold zR; omega)) (fun c93 => ?_) (fun c93 => ?_)
          · refine v_iload_n (pc := 119) hO dX4_stateAt_119 rfl ?_
            refine v_istore_n (pc := 120) hO (lv' := [(3, .inl s), (5, .inl (544 + (3 * e))), (0, sref am), (1, .inl a), (2, .inl t), (4, .inl e)]) dX4_stateAt_120 (by decide) rfl ?_
            refine v_iinc (pc := 121) hO (lv' := [(4, .inl (e + 1)), (3, .inl s), (5, .inl (544 + (3 * e))), (0, sref am), (1, .inl a), (2, .inl t)]) dX4_stateAt_121 rfl (by decide) rfl ?_
            refine v_goto (pc := 124) (tgt := 61) hO dX4_stateAt_124 (by decide) ?_
            refine v_pick (lv2 := [(0, sref am), (1, .inl a), (2, .inl t), (3, .inl s), (4, .inl ((e + 1)))]) [3, 4, 5, 1, 0] rfl ?_
            exact ih (e + 1, s) ⟨(by omega), (by omega), (hg.trans ((itI_s (by omega)).trans (by rw [show staF M a t e s = s from if_neg (by omega)])))⟩ (by show (M 7 - (e + 1)).toNat < (M 7 - e).toNat; omega)
          · refine v_aload_n (pc := 96) hO dX4_stateAt_96 rfl ?_
            refine v_getf (pc := 97) (v := sref (ad 0)) hO cp_X4 0 q2125 hr.ob (by decide) rfl dX4_stateAt_97 ?_
            refine v_iload (pc := 100) hO dX4_stateAt_100 rfl ?_
            refine r_iald (pc := 102) (w := M (544 + (3 * e))) (L := 3934) hO hr 0 ri_0 rfl rfl (by omega) (by omega) dX4_stateAt_102 ?_
            refine v_iload_n (pc := 103) hO dX4_stateAt_103 rfl ?_
            refine v_icmp_ge (pc := 104) (tgt := 119) hO dX4_stateAt_104 (by decide) (by first | assumption | exact hr.zA 0 _ | exact hr.zA 8 _ | exact hr.zA 9 _ | exact hr.zS _ | exact hMz _ | exact hMz1 _ | exact zw_R _ | (unfold zR; omega)) (by first | assumption | exact hr.zA 0 _ | exact hr.zA 8 _ | exact hr.zA 9 _ | exact hr.zS _ | exact hMz _ | exact hMz1 _ | exact zw_R _ | (unfold zR; omega)) (fun c104 => ?_) (fun c104 => ?_)
            · refine v_iload_n (pc := 119) hO dX4_stateAt_119 rfl ?_
              refine v_istore_n (pc := 120) hO (lv' := [(3, .inl s), (5, .inl (544 + (3 * e))), (0, sref am), (1, .inl a), (2, .inl t), (4, .inl e)]) dX4_stateAt_120 (by decide) rfl ?_
              refine v_iinc (pc := 121) hO (lv' := [(4, .inl (e + 1)), (3, .inl s), (5, .inl (544 + (3 * e))), (0, sref am), (1, .inl a), (2, .inl t)]) dX4_stateAt_121 rfl (by decide) rfl ?_
              refine v_goto (pc := 124) (tgt := 61) hO dX4_stateAt_124 (by decide) ?_
              refine v_pick (lv2 := [(0, sref am), (1, .inl a), (2, .inl t), (3, .inl s), (4, .inl ((e + 1)))]) [3, 4, 5, 1, 0] rfl ?_
              exact ih (e + 1, s) ⟨(by omega), (by omega), (hg.trans ((itI_s (by omega)).trans (by rw [show staF M a t e s = s from if_neg (by omega)])))⟩ (by show (M 7 - (e + 1)).toNat < (M 7 - e).toNat; omega)
            · refine v_aload_n (pc := 107) hO dX4_stateAt_107 rfl ?_
              refine v_getf (pc := 108) (v := sref (ad 0)) hO cp_X4 0 q2125 hr.ob (by decide) rfl dX4_stateAt_108 ?_
              refine v_iload (pc := 111) hO dX4_stateAt_111 rfl ?_
              refine v_iconst (pc := 113) hO dX4_stateAt_113 ?_
              refine v_iadd (pc := 114) hO dX4_stateAt_114 ?_
              refine r_iald (pc := 115) (w := M (544 + (3 * e) + 2)) (L := 3934) hO hr 0 ri_0 rfl rfl (by omega) (by omega) dX4_stateAt_115 ?_
              refine v_goto (pc := 116) (tgt := 120) hO dX4_stateAt_116 (by decide) ?_
              refine v_istore_n (pc := 120) hO (lv' := [(3, .inl (M (544 + (3 * e) + 2))), (5, .inl (544 + (3 * e))), (0, sref am), (1, .inl a), (2, .inl t), (4, .inl e)]) dX4_stateAt_120 (by decide) rfl ?_
              refine v_iinc (pc := 121) hO (lv' := [(4, .inl (e + 1)), (3, .inl (M (544 + (3 * e) + 2))), (5, .inl (544 + (3 * e))), (0, sref am), (1, .inl a), (2, .inl t)]) dX4_stateAt_121 rfl (by decide) rfl ?_
              refine v_goto (pc := 124) (tgt := 61) hO dX4_stateAt_124 (by decide) ?_
              refine v_pick (lv2 := [(0, sref am), (1, .inl a), (2, .inl t), (3, .inl ((M (544 + (3 * e) + 2)))), (4, .inl ((e + 1)))]) [3, 4, 5, 1, 0] rfl ?_
              exact ih (e + 1, M (544 + (3 * e) + 2)) ⟨(by omega), (by omega), (hg.trans ((itI_s (by omega)).trans (by rw [show staF M a t e s = M (544 + (3 * e) + 2) from if_pos (by omega)])))⟩ (by show (M 7 - (e + 1)).toNat < (M 7 - e).toNat; omega)
      · refine v_iconst (pc := 52) hO dX4_stateAt_52 ?_
        refine v_goto (pc := 53) (tgt := 57) hO dX4_stateAt_53 (by decide) ?_
        refine v_istore_n (pc := 57) hO (lv' := [(3, .inl 0), (0, sref am), (1, .inl a), (2, .inl t)]) dX4_stateAt_57 (by decide) rfl ?_
        refine v_iconst (pc := 58) hO dX4_stateAt_58 ?_
        refine v_istore (pc := 59) hO (lv' := [(4, .inl 0), (3, .inl 0), (0, sref am), (1, .inl a), (2, .inl t)]) dX4_stateAt_59 (by decide) rfl ?_
        refine v_pick (lv2 := [(0, sref am), (1, .inl a), (2, .inl t), (3, .inl 0), (4, .inl 0)]) [2, 3, 4, 1, 0] rfl ?_
        refine v_loop (σ := Int × Int) (fun (e, s) => 0 ≤ e ∧ e ≤ M 7 ∧ staM M a t = itI (staF M a t) (M 7 - e).toNat e s) (fun (e, s) => (M 7 - e).toNat) (fun (e, s) => h) (fun (e, s) => [(0, sref am), (1, .inl a), (2, .inl t), (3, .inl s), (4, .inl e)]) (0, 0) ⟨Int.le_refl _, (by omega), (by unfold staM; rw [if_pos (by omega)])⟩ ?_
        rintro ⟨e, s⟩ ⟨hi0, hi1, hg⟩ ih
        show VV X G A _ _ _ h _ _ 61 [(0, sref am), (1, .inl a), (2, .inl t), (3, .inl s), (4, .inl e)] []
        refine v_iload (pc := 61) hO dX4_stateAt_61 rfl ?_
        refine v_aload_n (pc := 63) hO dX4_stateAt_63 rfl ?_
        refine v_getf (pc := 64) (v := sref (ad 0)) hO cp_X4 0 q2125 hr.ob (by decide) rfl dX4_stateAt_64 ?_
        refine v_bipush (pc := 67) hO dX4_stateAt_67 (by decide +kernel) ?_
        refine r_iald (pc := 69) (w := M 7) (L := 3934) hO hr 0 ri_0 rfl rfl (by omega) (by omega) dX4_stateAt_69 ?_
        refine v_icmp_ge (pc := 70) (tgt := 127) hO dX4_stateAt_70 (by decide) (by first | assumption | exact hr.zA 0 _ | exact hr.zA 8 _ | exact hr.zA 9 _ | exact hr.zS _ | exact hMz _ | exact hMz1 _ | exact zw_R _ | (unfold zR; omega)) (by first | assumption | exact hr.zA 0 _ | exact hr.zA 8 _ | exact hr.zA 9 _ | exact hr.zS _ | exact hMz _ | exact hMz1 _ | exact zw_R _ | (unfold zR; omega)) (fun c70 => ?_) (fun c70 => ?_)
        · refine v_iload_n (pc := 127) hO dX4_stateAt_127 rfl ?_
          exact v_iret hO dX4_stateAt_128 rfl (Nat.le_of_ble_eq_true rfl) (Nat.le_of_ble_eq_true rfl) (Or.inl ⟨by omega, congrArg (fun z => some (Sum.inl z)) (hg.trans (itI_e (by omega))).symm, hr⟩)
        · refine v_sipush (pc := 73) hO dX4_stateAt_73 (by decide +kernel) ?_
          refine v_iconst (pc := 76) hO dX4_stateAt_76 ?_
          refine v_iload (pc := 77) hO dX4_stateAt_77 rfl ?_
          refine v_imul (pc := 79) hO dX4_stateAt_79 ?_
          refine v_iadd (pc := 80) hO dX4_stateAt_80 ?_
          refine v_istore (pc := 81) hO (lv' := [(5, .inl (544 + (3 * e))), (0, sref am), (1, .inl a), (2, .inl t), (3, .inl s), (4, .inl e)]) dX4_stateAt_81 (by decide) rfl ?_
          refine v_aload_n (pc := 83) hO dX4_stateAt_83 rfl ?_
          refine v_getf (pc := 84) (v := sref (ad 0)) hO cp_X4 0 q2125 hr.ob (by decide) rfl dX4_stateAt_84 ?_
          refine v_iload (pc := 87) hO dX4_stateAt_87 rfl ?_
          refine v_iconst (pc := 89) hO dX4_stateAt_89 ?_
          refine v_iadd (pc := 90) hO dX4_stateAt_90 ?_
          refine r_iald (pc := 91) (w := M (544 + (3 * e) + 1)) (L := 3934) hO hr 0 ri_0 rfl rfl (by omega) (by omega) dX4_stateAt_91 ?_
          refine v_iload_n (pc := 92) hO dX4_stateAt_92 rfl ?_
          refine v_icmp_ne (pc := 93) (tgt := 119) hO dX4_stateAt_93 (by decide) (by first | assumption | exact hr.zA 0 _ | exact hr.zA 8 _ | exact hr.zA 9 _ | exact hr.zS _ | exact hMz _ | exact hMz1 _ | exact zw_R _ | (unfold zR; omega)) (by first | assumption | exact hr.zA 0 _ | exact hr.zA 8 _ | exact hr.zA 9 _ | exact hr.zS _ | exact hMz _ | exact hMz1 _ | exact zw_R _ | (unfold zR; omega)) (fun c93 => ?_) (fun c93 => ?_)
          · refine v_iload_n (pc := 119) hO dX4_stateAt_119 rfl ?_
            refine v_istore_n (pc := 120) hO (lv' := [(3, .inl s), (5, .inl (544 + (3 * e))), (0, sref am), (1, .inl a), (2, .inl t), (4, .inl e)]) dX4_stateAt_120 (by decide) rfl ?_
            refine v_iinc (pc := 121) hO (lv' := [(4, .inl (e + 1)), (3, .inl s), (5, .inl (544 + (3 * e))), (0, sref am), (1, .inl a), (2, .inl t)]) dX4_stateAt_121 rfl (by decide) rfl ?_
            refine v_goto (pc := 124) (tgt := 61) hO dX4_stateAt_124 (by decide) ?_
            refine v_pick (lv2 := [(0, sref am), (1, .inl a), (2, .inl t), (3, .inl s), (4, .inl ((e + 1)))]) [3, 4, 5, 1, 0] rfl ?_
            exact ih (e + 1, s) ⟨(by omega), (by omega), (hg.trans ((itI_s (by omega)).trans (by rw [show staF M a t e s = s from if_neg (by omega)])))⟩ (by show (M 7 - (e + 1)).toNat < (M 7 - e).toNat; omega)
          · refine v_aload_n (pc := 96) hO dX4_stateAt_96 rfl ?_
            refine v_getf (pc := 97) (v := sref (ad 0)) hO cp_X4 0 q2125 hr.ob (by decide) rfl dX4_stateAt_97 ?_
            refine v_iload (pc := 100) hO dX4_stateAt_100 rfl ?_
            refine r_iald (pc := 102) (w := M (544 + (3 * e))) (L := 3934) hO hr 0 ri_0 rfl rfl (by omega) (by omega) dX4_stateAt_102 ?_
            refine v_iload_n (pc := 103) hO dX4_stateAt_103 rfl ?_
            refine v_icmp_ge (pc := 104) (tgt := 119) hO dX4_stateAt_104 (by decide) (by first | assumption | exact hr.zA 0 _ | exact hr.zA 8 _ | exact hr.zA 9 _ | exact hr.zS _ | exact hMz _ | exact hMz1 _ | exact zw_R _ | (unfold zR; omega)) (by first | assumption | exact hr.zA 0 _ | exact hr.zA 8 _ | exact hr.zA 9 _ | exact hr.zS _ | exact hMz _ | exact hMz1 _ | exact zw_R _ | (unfold zR; omega)) (fun c104 => ?_) (fun c104 => ?_)
            · refine v_iload_n (pc := 119) hO dX4_stateAt_119 rfl ?_
              refine v_istore_n (pc := 120) hO (lv' := [(3, .inl s), (5, .inl (544 + (3 * e))), (0, sref am), (1, .inl a), (2, .inl t), (4, .inl e)]) dX4_stateAt_120 (by decide) rfl ?_
              refine v_iinc (pc := 121) hO (lv' := [(4, .inl (e + 1)), (3, .inl s), (5, .inl (544 + (3 * e))), (0, sref am), (1, .inl a), (2, .inl t)]) dX4_stateAt_121 rfl (by decide) rfl ?_
              refine v_goto (pc := 124) (tgt := 61) hO dX4_stateAt_124 (by decide) ?_
              refine v_pick (lv2 := [(0, sref am), (1, .inl a), (2, .inl t), (3, .inl s), (4, .inl ((e + 1)))]) [3, 4, 5, 1, 0] rfl ?_
              exact ih (e + 1, s) ⟨(by omega), (by omega), (hg.trans ((itI_s (by omega)).trans (by rw [show staF M a t e s = s from if_neg (by omega)])))⟩ (by show (M 7 - (e + 1)).toNat < (M 7 - e).toNat; omega)
            · refine v_aload_n (pc := 107) hO dX4_stateAt_107 rfl ?_
              refine v_getf (pc := 108) (v := sref (ad 0)) hO cp_X4 0 q2125 hr.ob (by decide) rfl dX4_stateAt_108 ?_
              refine v_iload (pc := 111) hO dX4_stateAt_111 rfl ?_
              refine v_iconst (pc := 113) hO dX4_stateAt_113 ?_
              refine v_iadd (pc := 114) hO dX4_stateAt_114 ?_
              refine r_iald (pc := 115) (w := M (544 + (3 * e) + 2)) (L := 3934) hO hr 0 ri_0 rfl rfl (by omega) (by omega) dX4_stateAt_115 ?_
              refine v_goto (pc := 116) (tgt := 120) hO dX4_stateAt_116 (by decide) ?_
              refine v_istore_n (pc := 120) hO (lv' := [(3, .inl (M (544 + (3 * e) + 2))), (5, .inl (544 + (3 * e))), (0, sref am), (1, .inl a), (2, .inl t), (4, .inl e)]) dX4_stateAt_120 (by decide) rfl ?_
              refine v_iinc (pc := 121) hO (lv' := [(4, .inl (e + 1)), (3, .inl (M (544 + (3 * e) + 2))), (5, .inl (544 + (3 * e))), (0, sref am), (1, .inl a), (2, .inl t)]) dX4_stateAt_121 rfl (by decide) rfl ?_
              refine v_goto (pc := 124) (tgt := 61) hO dX4_stateAt_124 (by decide) ?_
              refine v_pick (lv2 := [(0, sref am), (1, .inl a), (2, .inl t), (3, .inl ((M (544 + (3 * e) + 2)))), (4, .inl ((e + 1)))]) [3, 4, 5, 1, 0] rfl ?_
              exact ih (e + 1, M (544 + (3 * e) + 2)) ⟨(by omega), (by omega), (hg.trans ((itI_s (by omega)).trans (by rw [show staF M a t e s = M (544 + (3 * e) + 2) from if_pos (by omega)])))⟩ (by show (M 7 - (e + 1)).toNat < (M 7 - e).toNat; omega)
  · refine v_iconst (pc := 9) hO dX4_stateAt_9 ?_
    refine v_goto (pc := 10) (tgt := 30) hO dX4_stateAt_10 (by decide) ?_
    refine r_puti (pc := 30) (S2 := (rS S 6 1)) hO hr hA 6 rn_6 q2131 rfl (by first | assumption | exact hr.zA 0 _ | exact hr.zA 8 _ | exact hr.zA 9 _ | exact hr.zS _ | exact hMz _ | exact hMz1 _ | exact zw_R _ | (unfold zR; omega)) dX4_stateAt_30 (fun h hr => ?_)
    refine v_aload_n (pc := 33) hO dX4_stateAt_33 rfl ?_
    refine v_getf (pc := 34) (v := .inl 1) hO cp_X4 6 q2131 hr.ob (by decide) rfl dX4_stateAt_34 ?_
    refine v_if_eq (pc := 37) (tgt := 42) hO dX4_stateAt_37 (by decide) (by unfold zR; omega) (fun c37 => absurd c37 (by omega)) (fun c37 => ?_)
    refine v_iconst (pc := 40) hO dX4_stateAt_40 ?_
    exact v_iret hO dX4_stateAt_41 rfl (Nat.le_of_ble_eq_true rfl) (Nat.le_of_ble_eq_true rfl) (Or.inr (Or.inl ⟨by omega, (congrArg (fun z => some (Sum.inl z)) (by (repeat' split) <;> first | rfl | omega)), hr⟩))
theorem yo_X4_crossed : yOK yX4_crossed 0 := by unfold yOK; exact ⟨by decide +kernel, by decide +kernel, by decide +kernel⟩
set_option maxRecDepth 100000 in
theorem m_crossed {G : GT} {h : AH} {am : Nat} {ad : Nat → Nat} {nmf : Int → Option Nat} {S : Nat → Int} {Ar : Nat → Int → Int} {M : Int → Int} (hr : RefAt G h am ad nmf S (rA Ar 0 M)) {A : Nat → Prop} (hA : ∀ q, RA am ad q → A q) (hB : Bq M) : CC G yX4_crossed cX4_crossed 6 (some .int) ({ frames := 3, cells := 0, slots := 0, locals := 55 } : Room) A [sref am] h (fun v h1 => v = some (.inl (crsM M)) ∧ RefAt G h1 am ad nmf (rS S 6 0) (rA Ar 0 M)) := by
  refine CC.of (by decide +kernel) [(0, sref am)] rfl (Nat.le_of_ble_eq_true rfl) (fun X hnm hO => ?_)
  have hMz : ∀ z, zR (M z) := fun z => hr.zA 0 z
  have hd := hB.hd
  have h2 := hB.1.2.1
  have h4 := hB.h4
  have h5 := hB.1.2.2.2.1
  have h8 := hB.1.2.2.2.2.1
  have hpics := hB.pics
  have h3 := hpics.1
  have h7 := hB.h7
  refine v_aload_n (pc := 0) hO dX4_crossed_0 rfl ?_
  refine v_iconst (pc := 1) hO dX4_crossed_1 ?_
  refine r_puti (pc := 2) (S2 := (rS S 6 0)) hO hr hA 6 rn_6 q2131 rfl (by first | assumption | exact hr.zA 0 _ | exact hr.zA 8 _ | exact hr.zA 9 _ | exact hr.zS _ | exact hMz _ | exact hMz1 _ | exact zw_R _ | (unfold zR; omega)) dX4_crossed_2 (fun h hr => ?_)
  refine v_iconst (pc := 5) hO dX4_crossed_5 ?_
  refine v_istore_n (pc := 6) hO (lv' := [(1, .inl 0), (0, sref am)]) dX4_crossed_6 (by decide) rfl ?_
  refine v_iconst (pc := 7) hO dX4_crossed_7 ?_
  refine v_istore_n (pc := 8) hO (lv' := [(2, .inl 0), (1, .inl 0), (0, sref am)]) dX4_crossed_8 (by decide) rfl ?_
  refine v_pick (lv2 := [(0, sref am), (1, .inl 0), (2, .inl 0)]) [2, 1, 0] rfl ?_
  refine v_loop (σ := Int × Int) (fun (i, q) => 0 ≤ i ∧ i ≤ M 4 ∧ 0 ≤ q ∧ q ≤ 40 * i ∧ crsM M = q + sumI (crs1 M) (M 4 - i).toNat i) (fun (i, q) => (M 4 - i).toNat) (fun (i, q) => h) (fun (i, q) => [(0, sref am), (1, .inl q), (2, .inl i)]) (0, 0) ⟨Int.le_refl _, (by omega), Int.le_refl _, Int.le_refl _, (by unfold crsM; omega)⟩ ?_
  rintro ⟨i, q⟩ ⟨hi0, hi1, hq0, hq1, hg⟩ ihA
  show VV X G A _ _ _ h _ _ 9 [(0, sref am), (1, .inl q), (2, .inl i)] []
  refine v_iload_n (pc := 9) hO dX4_crossed_9 rfl ?_
  refine v_aload_n (pc := 10) hO dX4_crossed_10 rfl ?_
  refine v_getf (pc := 11) (v := sref (ad 0)) hO cp_X4 0 q2125 hr.ob (by decide) rfl dX4_crossed_11 ?_
  refine v_iconst (pc := 14) hO dX4_crossed_14 ?_
  refine r_iald (pc := 15) (w := M 4) (L := 3934) hO hr 0 ri_0 rfl rfl (by omega) (by omega) dX4_crossed_15 ?_
  refine v_icmp_ge (pc := 16) (tgt := 127) hO dX4_crossed_16 (by decide) (by first | assumption | exact hr.zA 0 _ | exact hr.zA 8 _ | exact hr.zA 9 _ | exact hr.zS _ | exact hMz _ | exact hMz1 _ | exact zw_R _ | (unfold zR; omega)) (by first | assumption | exact hr.zA 0 _ | exact hr.zA 8 _ | exact hr.zA 9 _ | exact hr.zS _ | exact hMz _ | exact hMz1 _ | exact zw_R _ | (unfold zR; omega)) (fun c16 => ?_) (fun c16 => ?_)
  · refine v_iload_n (pc := 127) hO dX4_crossed_127 rfl ?_
    exact v_iret hO dX4_crossed_128 rfl (Nat.le_of_ble_eq_true rfl) (Nat.le_of_ble_eq_true rfl) ⟨congrArg (fun z => some (Sum.inl z)) (by have e9 := sumI_e (f := crs1 M) (show M 4 ≤ i by omega); omega), hr⟩
  · refine v_iload_n (pc := 19) hO dX4_crossed_19 rfl ?_
    refine v_iconst (pc := 20) hO dX4_crossed_20 ?_
    refine v_iadd (pc := 21) hO dX4_crossed_21 ?_
    refine v_istore_n (pc := 22) hO (lv' := [(3, .inl (i + 1)), (0, sref am), (1, .inl q), (2, .inl i)]) dX4_crossed_22 (by decide) rfl ?_
    refine v_pick (lv2 := [(0, sref am), (1, .inl q), (2, .inl i), (3, .inl ((i + 1)))]) [1, 2, 3, 0] rfl ?_
    refine v_loop (σ := Int × Int) (fun (j, q2) => i + 1 ≤ j ∧ j ≤ M 4 ∧ 0 ≤ q2 ∧ q2 ≤ q + (j - (i + 1)) ∧ q + crs1 M i = q2 + cntI (crsP M i) (M 4 - j).toNat j) (fun (j, q2) => (M 4 - j).toNat) (fun (j, q2) => h) (fun (j, q2) => [(0, sref am), (1, .inl q2), (2, .inl i), (3, .inl j)]) (i + 1, q) ⟨Int.le_refl _, (by omega), (by omega), (by omega), (by unfold crs1; omega)⟩ ?_
    rintro ⟨j, q2⟩ ⟨hj0, hj1, hp0, hp1, hh⟩ ih
    show VV X G A _ _ _ h _ _ 23 [(0, sref am), (1, .inl q2), (2, .inl i), (3, .inl j)] []
    refine v_iload_n (pc := 23) hO dX4_crossed_23 rfl ?_
    refine v_aload_n (pc := 24) hO dX4_crossed_24 rfl ?_
    refine v_getf (pc := 25) (v := sref (ad 0)) hO cp_X4 0 q2125 hr.ob (by decide) rfl dX4_crossed_25 ?_
    refine v_iconst (pc := 28) hO dX4_crossed_28 ?_
    refine r_iald (pc := 29) (w := M 4) (L := 3934) hO hr 0 ri_0 rfl rfl (by omega) (by omega) dX4_crossed_29 ?_
    refine v_icmp_ge (pc := 30) (tgt := 121) hO dX4_crossed_30 (by decide) (by first | assumption | exact hr.zA 0 _ | exact hr.zA 8 _ | exact hr.zA 9 _ | exact hr.zS _ | exact hMz _ | exact hMz1 _ | exact zw_R _ | (unfold zR; omega)) (by first | assumption | exact hr.zA 0 _ | exact hr.zA 8 _ | exact hr.zA 9 _ | exact hr.zS _ | exact hMz _ | exact hMz1 _ | exact zw_R _ | (unfold zR; omega)) (fun c30 => ?_) (fun c30 => ?_)
    · refine v_iinc (pc := 121) hO (lv' := [(2, .inl (i + 1)), (0, sref am), (1, .inl q2), (3, .inl j)]) dX4_crossed_121 rfl (by decide) rfl ?_
      refine v_goto (pc := 124) (tgt := 9) hO dX4_crossed_124 (by decide) ?_
      refine v_pick (lv2 := [(0, sref am), (1, .inl q2), (2, .inl ((i + 1)))]) [1, 2, 0] rfl ?_
      exact ihA (i + 1, q2) ⟨(by omega), (by omega), (by omega), (by omega), (by have e9 := sumI_s (f := crs1 M) (show i < M 4 by omega); have e8 := cntI_e (p := crsP M i) (show M 4 ≤ j by omega); omega)⟩ (by show (M 4 - (i + 1)).toNat < (M 4 - i).toNat; omega)
    · refine v_aload_n (pc := 33) hO dX4_crossed_33 rfl ?_
      refine v_iload_n (pc := 34) hO dX4_crossed_34 rfl ?_
      refine v_iconst (pc := 35) hO dX4_crossed_35 ?_
      refine v_callV (pc := 36) (b := am) hO cp_X4 hr.ob (m_ofOrder hr i 5 (by omega) (by omega)) (lw_V q2245 q2247 qs38 q117 q2248) yo_X4_ofOrder rfl rfl rfl (by decide) (by decide) (k2 := 0) (n2 := 0) (by decide) (by decide) (by decide) (by decide) dX4_crossed_36 (fun va hv hp hf1 => ?_)
      obtain ⟨rfl, rfl⟩ := hp
      refine v_iconst (pc := 39) hO dX4_crossed_39 ?_
      refine v_icmp_eq (pc := 40) (tgt := 57) hO dX4_crossed_40 (by decide) (by first | assumption | exact hr.zA 0 _ | exact hr.zA 8 _ | exact hr.zA 9 _ | exact hr.zS _ | exact hMz _ | exact hMz1 _ | exact zw_R _ | (unfold zR; omega)) (by first | assumption | exact hr.zA 0 _ | exact hr.zA 8 _ | exact hr.zA 9 _ | exact hr.zS _ | exact hMz _ | exact hMz1 _ | exact zw_R _ | (unfold zR; omega)) (fun c40 => ?_) (fun c40 => ?_)
      · refine v_iconst (pc := 57) hO dX4_crossed_57 ?_
        refine v_istore (pc := 58) hO (lv' := [(4, .inl 0), (0, sref am), (1, .inl q2), (2, .inl i), (3, .inl j)]) dX4_crossed_58 (by decide) rfl ?_
        refine v_aload_n (pc := 60) hO dX4_crossed_60 rfl ?_
        refine v_iload_n (pc := 61) hO dX4_crossed_61 rfl ?_
        refine v_iconst (pc := 62) hO dX4_crossed_62 ?_
        refine v_callV (pc := 63) (b := am) hO cp_X4 hr.ob (m_ofOrder hr i 0 (by omega) (by omega)) (lw_V q2245 q2247 qs38 q117 q2248) yo_X4_ofOrder rfl rfl rfl (by decide) (by decide) (k2 := 0) (n2 := 0) (by decide) (by decide) (by decide) (by decide) dX4_crossed_63 (fun va hv hp hf1 => ?_)
        obtain ⟨rfl, rfl⟩ := hp
        refine v_aload_n (pc := 66) hO dX4_crossed_66 rfl ?_
        refine v_iload_n (pc := 67) hO dX4_crossed_67 rfl ?_
        refine v_iconst (pc := 68) hO dX4_crossed_68 ?_
        refine v_callV (pc := 69) (b := am) hO cp_X4 hr.ob (m_ofOrder hr j 0 (by omega) (by omega)) (lw_V q2245 q2247 qs38 q117 q2248) yo_X4_ofOrder rfl rfl rfl (by decide) (by decide) (k2 := 0) (n2 := 0) (by decide) (by decide) (by decide) (by decide) dX4_crossed_69 (fun va hv hp hf1 => ?_)
        obtain ⟨rfl, rfl⟩ := hp
        refine v_icmp_ne (pc := 72) (tgt := 79) hO dX4_crossed_72 (by decide) (by first | assumption | exact hr.zA 0 _ | exact hr.zA 8 _ | exact hr.zA 9 _ | exact hr.zS _ | exact hMz _ | exact hMz1 _ | exact zw_R _ | (unfold zR; omega)) (by first | assumption | exact hr.zA 0 _ | exact hr.zA 8 _ | exact hr.zA 9 _ | exact hr.zS _ | exact hMz _ | exact hMz1 _ | exact zw_R _ | (unfold zR; omega)) (fun c72 => ?_) (fun c72 => ?_)
        · refine v_iconst (pc := 79) hO dX4_crossed_79 ?_
          refine v_istore (pc := 80) hO (lv' := [(5, .inl 0), (4, .inl 0), (0, sref am), (1, .inl q2), (2, .inl i), (3, .inl j)]) dX4_crossed_80 (by decide) rfl ?_
          refine v_iload_n (pc := 82) hO dX4_crossed_82 rfl ?_
          refine v_iload (pc := 83) hO dX4_crossed_83 rfl ?_
          refine v_if_eq (pc := 85) (tgt := 112) hO dX4_crossed_85 (by decide) (by unfold zR; omega) (fun c85 => ?_) (fun c85 => absurd c85 (by omega))
          refine v_iconst (pc := 112) hO dX4_crossed_112 ?_
          refine v_iadd (pc := 113) hO dX4_crossed_113 ?_
          refine v_istore_n (pc := 114) hO (lv' := [(1, .inl (q2 + 0)), (5, .inl 0), (4, .inl 0), (0, sref am), (2, .inl i), (3, .inl j)]) dX4_crossed_114 (by decide) rfl ?_
          refine v_iinc (pc := 115) hO (lv' := [(3, .inl (j + 1)), (1, .inl (q2 + 0)), (5, .inl 0), (4, .inl 0), (0, sref am), (2, .inl i)]) dX4_crossed_115 rfl (by decide) rfl ?_
          refine v_goto (pc := 118) (tgt := 23) hO dX4_crossed_118 (by decide) ?_
          refine v_pick (lv2 := [(0, sref am), (1, .inl ((q2 + 0))), (2, .inl i), (3, .inl ((j + 1)))]) [4, 1, 5, 0] rfl ?_
          exact ih (j + 1, q2 + 0) ⟨(by omega), (by omega), (by omega), (by omega), (by have e9 := cntI_n (p := crsP M i) (show j < M 4 by omega) (fun e => absurd (of_decide_eq_true e) (by omega)); omega)⟩ (by show (M 4 - (j + 1)).toNat < (M 4 - j).toNat; omega)
        · refine v_iconst (pc := 75) hO dX4_crossed_75 ?_
          refine v_goto (pc := 76) (tgt := 80) hO dX4_crossed_76 (by decide) ?_
          refine v_istore (pc := 80) hO (lv' := [(5, .inl 1), (4, .inl 0), (0, sref am), (1, .inl q2), (2, .inl i), (3, .inl j)]) dX4_crossed_80 (by decide) rfl ?_
          refine v_iload_n (pc := 82) hO dX4_crossed_82 rfl ?_
          refine v_iload (pc := 83) hO dX4_crossed_83 rfl ?_
          refine v_if_eq (pc := 85) (tgt := 112) hO dX4_crossed_85 (by decide) (by unfold zR; omega) (fun c85 => ?_) (fun c85 => absurd c85 (by omega))
          refine v_iconst (pc := 112) hO dX4_crossed_112 ?_
          refine v_iadd (pc := 113) hO dX4_crossed_113 ?_
          refine v_istore_n (pc := 114) hO (lv' := [(1, .inl (q2 + 0)), (5, .inl 1), (4, .inl 0), (0, sref am), (2, .inl i), (3, .inl j)]) dX4_crossed_114 (by decide) rfl ?_
          refine v_iinc (pc := 115) hO (lv' := [(3, .inl (j + 1)), (1, .inl (q2 + 0)), (5, .inl 1), (4, .inl 0), (0, sref am), (2, .inl i)]) dX4_crossed_115 rfl (by decide) rfl ?_
          refine v_goto (pc := 118) (tgt := 23) hO dX4_crossed_118 (by decide) ?_
          refine v_pick (lv2 := [(0, sref am), (1, .inl ((q2 + 0))), (2, .inl i), (3, .inl ((j + 1)))]) [4, 1, 5, 0] rfl ?_
          exact ih (j + 1, q2 + 0) ⟨(by omega), (by omega), (by omega), (by omega), (by have e9 := cntI_n (p := crsP M i) (show j < M 4 by omega) (fun e => absurd (of_decide_eq_true e) (by omega)); omega)⟩ (by show (M 4 - (j + 1)).toNat < (M 4 - j).toNat; omega)
      · refine v_aload_n (pc := 43) hO dX4_crossed_43 rfl ?_
        refine v_iload_n (pc := 44) hO dX4_crossed_44 rfl ?_
        refine v_iconst (pc := 45) hO dX4_crossed_45 ?_
        refine v_callV (pc := 46) (b := am) hO cp_X4 hr.ob (m_ofOrder hr j 5 (by omega) (by omega)) (lw_V q2245 q2247 qs38 q117 q2248) yo_X4_ofOrder rfl rfl rfl (by decide) (by decide) (k2 := 0) (n2 := 0) (by decide) (by decide) (by decide) (by decide) dX4_crossed_46 (fun va hv hp hf1 => ?_)
        obtain ⟨rfl, rfl⟩ := hp
        refine v_iconst (pc := 49) hO dX4_crossed_49 ?_
        refine v_icmp_eq (pc := 50) (tgt := 57) hO dX4_crossed_50 (by decide) (by first | assumption | exact hr.zA 0 _ | exact hr.zA 8 _ | exact hr.zA 9 _ | exact hr.zS _ | exact hMz _ | exact hMz1 _ | exact zw_R _ | (unfold zR; omega)) (by first | assumption | exact hr.zA 0 _ | exact hr.zA 8 _ | exact hr.zA 9 _ | exact hr.zS _ | exact hMz _ | exact hMz1 _ | exact zw_R _ | (unfold zR; omega)) (fun c50 => ?_) (fun c50 => ?_)
        · refine v_iconst (pc := 57) hO dX4_crossed_57 ?_
          refine v_istore (pc := 58) hO (lv' := [(4, .inl 0), (0, sref am), (1, .inl q2), (2, .inl i), (3, .inl j)]) dX4_crossed_58 (by decide) rfl ?_
          refine v_aload_n (pc := 60) hO dX4_crossed_60 rfl ?_
          refine v_iload_n (pc := 61) hO dX4_crossed_61 rfl ?_
          refine v_iconst (pc := 62) hO dX4_crossed_62 ?_
          refine v_callV (pc := 63) (b := am) hO cp_X4 hr.ob (m_ofOrder hr i 0 (by omega) (by omega)) (lw_V q2245 q2247 qs38 q117 q2248) yo_X4_ofOrder rfl rfl rfl (by decide) (by decide) (k2 := 0) (n2 := 0) (by decide) (by decide) (by decide) (by decide) dX4_crossed_63 (fun va hv hp hf1 => ?_)
          obtain ⟨rfl, rfl⟩ := hp
          refine v_aload_n (pc := 66) hO dX4_crossed_66 rfl ?_
          refine v_iload_n (pc := 67) hO dX4_crossed_67 rfl ?_
          refine v_iconst (pc := 68) hO dX4_crossed_68 ?_
          refine v_callV (pc := 69) (b := am) hO cp_X4 hr.ob (m_ofOrder hr j 0 (by omega) (by omega)) (lw_V q2245 q2247 qs38 q117 q2248) yo_X4_ofOrder rfl rfl rfl (by decide) (by decide) (k2 := 0) (n2 := 0) (by decide) (by decide) (by decide) (by decide) dX4_crossed_69 (fun va hv hp hf1 => ?_)
          obtain ⟨rfl, rfl⟩ := hp
          refine v_icmp_ne (pc := 72) (tgt := 79) hO dX4_crossed_72 (by decide) (by first | assumption | exact hr.zA 0 _ | exact hr.zA 8 _ | exact hr.zA 9 _ | exact hr.zS _ | exact hMz _ | exact hMz1 _ | exact zw_R _ | (unfold zR; omega)) (by first | assumption | exact hr.zA 0 _ | exact hr.zA 8 _ | exact hr.zA 9 _ | exact hr.zS _ | exact hMz _ | exact hMz1 _ | exact zw_R _ | (unfold zR; omega)) (fun c72 => ?_) (fun c72 => ?_)
          · refine v_iconst (pc := 79) hO dX4_crossed_79 ?_
            refine v_istore (pc := 80) hO (lv' := [(5, .inl 0), (4, .inl 0), (0, sref am), (1, .inl q2), (2, .inl i), (3, .inl j)]) dX4_crossed_80 (by decide) rfl ?_
            refine v_iload_n (pc := 82) hO dX4_crossed_82 rfl ?_
            refine v_iload (pc := 83) hO dX4_crossed_83 rfl ?_
            refine v_if_eq (pc := 85) (tgt := 112) hO dX4_crossed_85 (by decide) (by unfold zR; omega) (fun c85 => ?_) (fun c85 => absurd c85 (by omega))
            refine v_iconst (pc := 112) hO dX4_crossed_112 ?_
            refine v_iadd (pc := 113) hO dX4_crossed_113 ?_
            refine v_istore_n (pc := 114) hO (lv' := [(1, .inl (q2 + 0)), (5, .inl 0), (4, .inl 0), (0, sref am), (2, .inl i), (3, .inl j)]) dX4_crossed_114 (by decide) rfl ?_
            refine v_iinc (pc := 115) hO (lv' := [(3, .inl (j + 1)), (1, .inl (q2 + 0)), (5, .inl 0), (4, .inl 0), (0, sref am), (2, .inl i)]) dX4_crossed_115 rfl (by decide) rfl ?_
            refine v_goto (pc := 118) (tgt := 23) hO dX4_crossed_118 (by decide) ?_
            refine v_pick (lv2 := [(0, sref am), (1, .inl ((q2 + 0))), (2, .inl i), (3, .inl ((j + 1)))]) [4, 1, 5, 0] rfl ?_
            exact ih (j + 1, q2 + 0) ⟨(by omega), (by omega), (by omega), (by omega), (by have e9 := cntI_n (p := crsP M i) (show j < M 4 by omega) (fun e => absurd (of_decide_eq_true e) (by omega)); omega)⟩ (by show (M 4 - (j + 1)).toNat < (M 4 - j).toNat; omega)
          · refine v_iconst (pc := 75) hO dX4_crossed_75 ?_
            refine v_goto (pc := 76) (tgt := 80) hO dX4_crossed_76 (by decide) ?_
            refine v_istore (pc := 80) hO (lv' := [(5, .inl 1), (4, .inl 0), (0, sref am), (1, .inl q2), (2, .inl i), (3, .inl j)]) dX4_crossed_80 (by decide) rfl ?_
            refine v_iload_n (pc := 82) hO dX4_crossed_82 rfl ?_
            refine v_iload (pc := 83) hO dX4_crossed_83 rfl ?_
            refine v_if_eq (pc := 85) (tgt := 112) hO dX4_crossed_85 (by decide) (by unfold zR; omega) (fun c85 => ?_) (fun c85 => absurd c85 (by omega))
            refine v_iconst (pc := 112) hO dX4_crossed_112 ?_
            refine v_iadd (pc := 113) hO dX4_crossed_113 ?_
            refine v_istore_n (pc := 114) hO (lv' := [(1, .inl (q2 + 0)), (5, .inl 1), (4, .inl 0), (0, sref am), (2, .inl i), (3, .inl j)]) dX4_crossed_114 (by decide) rfl ?_
            refine v_iinc (pc := 115) hO (lv' := [(3, .inl (j + 1)), (1, .inl (q2 + 0)), (5, .inl 1), (4, .inl 0), (0, sref am), (2, .inl i)]) dX4_crossed_115 rfl (by decide) rfl ?_
            refine v_goto (pc := 118) (tgt := 23) hO dX4_crossed_118 (by decide) ?_
            refine v_pick (lv2 := [(0, sref am), (1, .inl ((q2 + 0))), (2, .inl i), (3, .inl ((j + 1)))]) [4, 1, 5, 0] rfl ?_
            exact ih (j + 1, q2 + 0) ⟨(by omega), (by omega), (by omega), (by omega), (by have e9 := cntI_n (p := crsP M i) (show j < M 4 by omega) (fun e => absurd (of_decide_eq_true e) (by omega)); omega)⟩ (by show (M 4 - (j + 1)).toNat < (M 4 - j).toNat; omega)
        · refine v_iconst (pc := 53) hO dX4_crossed_53 ?_
          refine v_goto (pc := 54) (tgt := 58) hO dX4_crossed_54 (by decide) ?_
          refine v_istore (pc := 58) hO (lv' := [(4, .inl 1), (0, sref am), (1, .inl q2), (2, .inl i), (3, .inl j)]) dX4_crossed_58 (by decide) rfl ?_
          refine v_aload_n (pc := 60) hO dX4_crossed_60 rfl ?_
          refine v_iload_n (pc := 61) hO dX4_crossed_61 rfl ?_
          refine v_iconst (pc := 62) hO dX4_crossed_62 ?_
          refine v_callV (pc := 63) (b := am) hO cp_X4 hr.ob (m_ofOrder hr i 0 (by omega) (by omega)) (lw_V q2245 q2247 qs38 q117 q2248) yo_X4_ofOrder rfl rfl rfl (by decide) (by decide) (k2 := 0) (n2 := 0) (by decide) (by decide) (by decide) (by decide) dX4_crossed_63 (fun va hv hp hf1 => ?_)
          obtain ⟨rfl, rfl⟩ := hp
          refine v_aload_n (pc := 66) hO dX4_crossed_66 rfl ?_
          refine v_iload_n (pc := 67) hO dX4_crossed_67 rfl ?_
          refine v_iconst (pc := 68) hO dX4_crossed_68 ?_
          refine v_callV (pc := 69) (b := am) hO cp_X4 hr.ob (m_ofOrder hr j 0 (by omega) (by omega)) (lw_V q2245 q2247 qs38 q117 q2248) yo_X4_ofOrder rfl rfl rfl (by decide) (by decide) (k2 := 0) (n2 := 0) (by decide) (by decide) (by decide) (by decide) dX4_crossed_69 (fun va hv hp hf1 => ?_)
          obtain ⟨rfl, rfl⟩ := hp
          refine v_icmp_ne (pc := 72) (tgt := 79) hO dX4_crossed_72 (by decide) (by first | assumption | exact hr.zA 0 _ | exact hr.zA 8 _ | exact hr.zA 9 _ | exact hr.zS _ | exact hMz _ | exact hMz1 _ | exact zw_R _ | (unfold zR; omega)) (by first | assumption | exact hr.zA 0 _ | exact hr.zA 8 _ | exact hr.zA 9 _ | exact hr.zS _ | exact hMz _ | exact hMz1 _ | exact zw_R _ | (unfold zR; omega)) (fun c72 => ?_) (fun c72 => ?_)
          · refine v_iconst (pc := 79) hO dX4_crossed_79 ?_
            refine v_istore (pc := 80) hO (lv' := [(5, .inl 0), (4, .inl 1), (0, sref am), (1, .inl q2), (2, .inl i), (3, .inl j)]) dX4_crossed_80 (by decide) rfl ?_
            refine v_iload_n (pc := 82) hO dX4_crossed_82 rfl ?_
            refine v_iload (pc := 83) hO dX4_crossed_83 rfl ?_
            refine v_if_eq (pc := 85) (tgt := 112) hO dX4_crossed_85 (by decide) (by unfold zR; omega) (fun c85 => absurd c85 (by omega)) (fun c85 => ?_)
            refine v_iload (pc := 88) hO dX4_crossed_88 rfl ?_
            refine v_if_eq (pc := 90) (tgt := 112) hO dX4_crossed_90 (by decide) (by unfold zR; omega) (fun c90 => ?_) (fun c90 => absurd c90 (by omega))
            refine v_iconst (pc := 112) hO dX4_crossed_112 ?_
            refine v_iadd (pc := 113) hO dX4_crossed_113 ?_
            refine v_istore_n (pc := 114) hO (lv' := [(1, .inl (q2 + 0)), (5, .inl 0), (4, .inl 1), (0, sref am), (2, .inl i), (3, .inl j)]) dX4_crossed_114 (by decide) rfl ?_
            refine v_iinc (pc := 115) hO (lv' := [(3, .inl (j + 1)), (1, .inl (q2 + 0)), (5, .inl 0), (4, .inl 1), (0, sref am), (2, .inl i)]) dX4_crossed_115 rfl (by decide) rfl ?_
            refine v_goto (pc := 118) (tgt := 23) hO dX4_crossed_118 (by decide) ?_
            refine v_pick (lv2 := [(0, sref am), (1, .inl ((q2 + 0))), (2, .inl i), (3, .inl ((j + 1)))]) [4, 1, 5, 0] rfl ?_
            exact ih (j + 1, q2 + 0) ⟨(by omega), (by omega), (by omega), (by omega), (by have e9 := cntI_n (p := crsP M i) (show j < M 4 by omega) (fun e => absurd (of_decide_eq_true e) (by omega)); omega)⟩ (by show (M 4 - (j + 1)).toNat < (M 4 - j).toNat; omega)
          · refine v_iconst (pc := 75) hO dX4_crossed_75 ?_
            refine v_goto (pc := 76) (tgt := 80) hO dX4_crossed_76 (by decide) ?_
            refine v_istore (pc := 80) hO (lv' := [(5, .inl 1), (4, .inl 1), (0, sref am), (1, .inl q2), (2, .inl i), (3, .inl j)]) dX4_crossed_80 (by decide) rfl ?_
            refine v_iload_n (pc := 82) hO dX4_crossed_82 rfl ?_
            refine v_iload (pc := 83) hO dX4_crossed_83 rfl ?_
            refine v_if_eq (pc := 85) (tgt := 112) hO dX4_crossed_85 (by decide) (by unfold zR; omega) (fun c85 => absurd c85 (by omega)) (fun c85 => ?_)
            refine v_iload (pc := 88) hO dX4_crossed_88 rfl ?_
            refine v_if_eq (pc := 90) (tgt := 112) hO dX4_crossed_90 (by decide) (by unfold zR; omega) (fun c90 => absurd c90 (by omega)) (fun c90 => ?_)
            refine v_aload_n (pc := 93) hO dX4_crossed_93 rfl ?_
            refine v_iload_n (pc := 94) hO dX4_crossed_94 rfl ?_
            refine v_iconst (pc := 95) hO dX4_crossed_95 ?_
            refine v_callV (pc := 96) (b := am) hO cp_X4 hr.ob (m_ofOrder hr j 5 (by omega) (by omega)) (lw_V q2245 q2247 qs38 q117 q2248) yo_X4_ofOrder rfl rfl rfl (by decide) (by decide) (k2 := 0) (n2 := 0) (by decide) (by decide) (by decide) (by decide) dX4_crossed_96 (fun va hv hp hf1 => ?_)
            obtain ⟨rfl, rfl⟩ := hp
            refine v_aload_n (pc := 99) hO dX4_crossed_99 rfl ?_
            refine v_iload_n (pc := 100) hO dX4_crossed_100 rfl ?_
            refine v_iconst (pc := 101) hO dX4_crossed_101 ?_
            refine v_callV (pc := 102) (b := am) hO cp_X4 hr.ob (m_ofOrder hr i 5 (by omega) (by omega)) (lw_V q2245 q2247 qs38 q117 q2248) yo_X4_ofOrder rfl rfl rfl (by decide) (by decide) (k2 := 0) (n2 := 0) (by decide) (by decide) (by decide) (by decide) dX4_crossed_102 (fun va hv hp hf1 => ?_)
            obtain ⟨rfl, rfl⟩ := hp
            refine v_icmp_ge (pc := 105) (tgt := 112) hO dX4_crossed_105 (by decide) (by first | assumption | exact hr.zA 0 _ | exact hr.zA 8 _ | exact hr.zA 9 _ | exact hr.zS _ | exact hMz _ | exact hMz1 _ | exact zw_R _ | (unfold zR; omega)) (by first | assumption | exact hr.zA 0 _ | exact hr.zA 8 _ | exact hr.zA 9 _ | exact hr.zS _ | exact hMz _ | exact hMz1 _ | exact zw_R _ | (unfold zR; omega)) (fun c105 => ?_) (fun c105 => ?_)
            · refine v_iconst (pc := 112) hO dX4_crossed_112 ?_
              refine v_iadd (pc := 113) hO dX4_crossed_113 ?_
              refine v_istore_n (pc := 114) hO (lv' := [(1, .inl (q2 + 0)), (5, .inl 1), (4, .inl 1), (0, sref am), (2, .inl i), (3, .inl j)]) dX4_crossed_114 (by decide) rfl ?_
              refine v_iinc (pc := 115) hO (lv' := [(3, .inl (j + 1)), (1, .inl (q2 + 0)), (5, .inl 1), (4, .inl 1), (0, sref am), (2, .inl i)]) dX4_crossed_115 rfl (by decide) rfl ?_
              refine v_goto (pc := 118) (tgt := 23) hO dX4_crossed_118 (by decide) ?_
              refine v_pick (lv2 := [(0, sref am), (1, .inl ((q2 + 0))), (2, .inl i), (3, .inl ((j + 1)))]) [4, 1, 5, 0] rfl ?_
              exact ih (j + 1, q2 + 0) ⟨(by omega), (by omega), (by omega), (by omega), (by have e9 := cntI_n (p := crsP M i) (show j < M 4 by omega) (fun e => absurd (of_decide_eq_true e) (by omega)); omega)⟩ (by show (M 4 - (j + 1)).toNat < (M 4 - j).toNat; omega)
            · refine v_iconst (pc := 108) hO dX4_crossed_108 ?_
              refine v_goto (pc := 109) (tgt := 113) hO dX4_crossed_109 (by decide) ?_
              refine v_iadd (pc := 113) hO dX4_crossed_113 ?_
              refine v_istore_n (pc := 114) hO (lv' := [(1, .inl (q2 + 1)), (5, .inl 1), (4, .inl 1), (0, sref am), (2, .inl i), (3, .inl j)]) dX4_crossed_114 (by decide) rfl ?_
              refine v_iinc (pc := 115) hO (lv' := [(3, .inl (j + 1)), (1, .inl (q2 + 1)), (5, .inl 1), (4, .inl 1), (0, sref am), (2, .inl i)]) dX4_crossed_115 rfl (by decide) rfl ?_
              refine v_goto (pc := 118) (tgt := 23) hO dX4_crossed_118 (by decide) ?_
              refine v_pick (lv2 := [(0, sref am), (1, .inl ((q2 + 1))), (2, .inl i), (3, .inl ((j + 1)))]) [4, 1, 5, 0] rfl ?_
              exact ih (j + 1, q2 + 1) ⟨(by omega), (by omega), (by omega), (by omega), (by have e9 := cntI_y (p := crsP M i) (show j < M 4 by omega) (decide_eq_true (by omega)); omega)⟩ (by show (M 4 - (j + 1)).toNat < (M 4 - j).toNat; omega)
theorem yo_X4_isTarget : yOK yX4_isTarget 3 := by unfold yOK; exact ⟨by decide +kernel, by decide +kernel, by decide +kernel⟩
set_option maxRecDepth 100000 in
theorem m_isTarget {G : GT} {h : AH} {am : Nat} {ad : Nat → Nat} {nmf : Int → Option Nat} {S : Nat → Int} {Ar : Nat → Int → Int} {M : Int → Int} (hr : RefAt G h am ad nmf S (rA Ar 0 M)) {A : Nat → Prop} (hA : ∀ q, RA am ad q → A q) (a x y : Int) (za : zR a) (zx : zR x) (zy : zR y) (hB : Bq M)  : CC G yX4_isTarget cX4_isTarget 4 (some .boolean) ({ frames := 4, cells := 0, slots := 0, locals := 78 } : Room) A [sref am, .inl a, .inl x, .inl y] h (fun v h1 => (((inb a 0 (M 2 - 1) ∧ cellP M x y) ∧ M (784 + 12 * y + x) = 0) ∧ v = some (.inl (1)) ∧ RefAt G h1 am ad nmf (rS S 6 0) (rA Ar 0 M)) ∨ (¬ (inb a 0 (M 2 - 1) ∧ cellP M x y) ∧ v = some (.inl 0) ∧ RefAt G h1 am ad nmf (rS S 6 1) (rA Ar 0 M)) ∨ (((inb a 0 (M 2 - 1) ∧ cellP M x y) ∧ ¬ (M (784 + 12 * y + x) = 0)) ∧ v = some (.inl 0) ∧ RefAt G h1 am ad nmf (rS S 6 2) (rA Ar 0 M))) := by
  refine CC.of (by decide +kernel) [(0, sref am), (1, .inl a), (2, .inl x), (3, .inl y)] rfl (Nat.le_of_ble_eq_true rfl) (fun X hnm hO => ?_)
  have hMz : ∀ z, zR (M z) := fun z => hr.zA 0 z
  have hd := hB.hd
  have h2 := hB.1.2.1
  have h4 := hB.h4
  have h5 := hB.1.2.2.2.1
  have h8 := hB.1.2.2.2.2.1
  have hpics := hB.pics
  have h3 := hpics.1
  have h7 := hB.h7
  refine v_aload_n (pc := 0) hO dX4_isTarget_0 rfl ?_
  refine v_aload_n (pc := 1) hO dX4_isTarget_1 rfl ?_
  refine v_iload_n (pc := 2) hO dX4_isTarget_2 rfl ?_
  refine v_callV (pc := 3) (b := am) hO cp_X4 hr.ob (m_isUnit hr a (by first | assumption | exact hr.zA 0 _ | exact hr.zA 8 _ | exact hr.zA 9 _ | exact hr.zS _ | exact hMz _ | exact hMz1 _ | (unfold zR; omega)) (by omega)) (lw_V q2230 q2232 qs35 q117 q2233) yo_X4_isUnit rfl rfl rfl (by decide) (by decide) (k2 := 0) (n2 := 0) (by decide) (by decide) (by decide) (by decide) dX4_isTarget_3 (fun va hv hp hf1 => ?_)
  obtain ⟨rfl, rfl⟩ := hp
  refine v_ifb_eq (pc := 6) (tgt := 18) hO dX4_isTarget_6 (by decide) (fun c6 => ?_) (fun c6 => ?_)
  · refine v_iconst (pc := 18) hO dX4_isTarget_18 ?_
    refine v_goto (pc := 19) (tgt := 36) hO dX4_isTarget_19 (by decide) ?_
    refine r_puti (pc := 36) (S2 := (rS S 6 1)) hO hr hA 6 rn_6 q2131 rfl (by first | assumption | exact hr.zA 0 _ | exact hr.zA 8 _ | exact hr.zA 9 _ | exact hr.zS _ | exact hMz _ | exact hMz1 _ | exact zw_R _ | (unfold zR; omega)) dX4_isTarget_36 (fun h hr => ?_)
    refine v_aload_n (pc := 39) hO dX4_isTarget_39 rfl ?_
    refine v_getf (pc := 40) (v := .inl 1) hO cp_X4 6 q2131 hr.ob (by decide) rfl dX4_isTarget_40 ?_
    refine v_if_ne (pc := 43) (tgt := 50) hO dX4_isTarget_43 (by decide) (by unfold zR; omega) (fun c43 => ?_) (fun c43 => absurd c43 (by omega))
    refine v_iconst (pc := 50) hO dX4_isTarget_50 ?_
    exact v_zret hO dX4_isTarget_51 rfl (by decide +kernel) (Nat.le_of_ble_eq_true rfl) (Nat.le_of_ble_eq_true rfl) (Or.inr (Or.inl ⟨by omega, rfl, hr⟩))
  · refine v_aload_n (pc := 9) hO dX4_isTarget_9 rfl ?_
    refine v_iload_n (pc := 10) hO dX4_isTarget_10 rfl ?_
    refine v_iload_n (pc := 11) hO dX4_isTarget_11 rfl ?_
    refine v_callV (pc := 12) (b := am) hO cp_X4 hr.ob (m_isCell hr x y (by first | assumption | exact hr.zA 0 _ | exact hr.zA 8 _ | exact hr.zA 9 _ | exact hr.zS _ | exact hMz _ | exact hMz1 _ | (unfold zR; omega)) (by first | assumption | exact hr.zA 0 _ | exact hr.zA 8 _ | exact hr.zA 9 _ | exact hr.zS _ | exact hMz _ | exact hMz1 _ | (unfold zR; omega)) hd) (lw_V q2314 q2316 qs47 q117 q2317) yo_X4_isCell rfl rfl rfl (by decide) (by decide) (k2 := 0) (n2 := 0) (by decide) (by decide) (by decide) (by decide) dX4_isTarget_12 (fun va hv hp hf1 => ?_)
    obtain ⟨rfl, rfl⟩ := hp
    refine v_ifb_ne (pc := 15) (tgt := 22) hO dX4_isTarget_15 (by decide) (fun c15 => ?_) (fun c15 => ?_)
    · refine v_aload_n (pc := 22) hO dX4_isTarget_22 rfl ?_
      refine v_iload_n (pc := 23) hO dX4_isTarget_23 rfl ?_
      refine v_iload_n (pc := 24) hO dX4_isTarget_24 rfl ?_
      refine v_callV (pc := 25) (b := am) hO cp_X4 hr.ob (m_isFree hr x y (by first | assumption | exact hr.zA 0 _ | exact hr.zA 8 _ | exact hr.zA 9 _ | exact hr.zS _ | exact hMz _ | exact hMz1 _ | (unfold zR; omega)) (by first | assumption | exact hr.zA 0 _ | exact hr.zA 8 _ | exact hr.zA 9 _ | exact hr.zS _ | exact hMz _ | exact hMz1 _ | (unfold zR; omega)) hd) (lw_V q2318 q2320 qs48 q117 q2321) yo_X4_isFree rfl rfl rfl (by decide) (by decide) (k2 := 0) (n2 := 0) (by decide) (by decide) (by decide) (by decide) dX4_isTarget_25 (fun va hv hp hf1 => ?_)
      obtain ⟨rfl, rfl⟩ := hp
      refine v_ifb_eq (pc := 28) (tgt := 35) hO dX4_isTarget_28 (by decide) (fun c28 => ?_) (fun c28 => ?_)
      · refine v_iconst (pc := 35) hO dX4_isTarget_35 ?_
        refine r_puti (pc := 36) (S2 := (rS S 6 2)) hO hr hA 6 rn_6 q2131 rfl (by first | assumption | exact hr.zA 0 _ | exact hr.zA 8 _ | exact hr.zA 9 _ | exact hr.zS _ | exact hMz _ | exact hMz1 _ | exact zw_R _ | (unfold zR; omega)) dX4_isTarget_36 (fun h hr => ?_)
        refine v_aload_n (pc := 39) hO dX4_isTarget_39 rfl ?_
        refine v_getf (pc := 40) (v := .inl 2) hO cp_X4 6 q2131 hr.ob (by decide) rfl dX4_isTarget_40 ?_
        refine v_if_ne (pc := 43) (tgt := 50) hO dX4_isTarget_43 (by decide) (by unfold zR; omega) (fun c43 => ?_) (fun c43 => absurd c43 (by omega))
        refine v_iconst (pc := 50) hO dX4_isTarget_50 ?_
        exact v_zret hO dX4_isTarget_51 rfl (by decide +kernel) (Nat.le_of_ble_eq_true rfl) (Nat.le_of_ble_eq_true rfl) (Or.inr (Or.inr ⟨by omega, rfl, hr⟩))
      · refine v_iconst (pc := 31) hO dX4_isTarget_31 ?_
        refine v_goto (pc := 32) (tgt := 36) hO dX4_isTarget_32 (by decide) ?_
        refine r_puti (pc := 36) (S2 := (rS S 6 0)) hO hr hA 6 rn_6 q2131 rfl (by first | assumption | exact hr.zA 0 _ | exact hr.zA 8 _ | exact hr.zA 9 _ | exact hr.zS _ | exact hMz _ | exact hMz1 _ | exact zw_R _ | (unfold zR; omega)) dX4_isTarget_36 (fun h hr => ?_)
        refine v_aload_n (pc := 39) hO dX4_isTarget_39 rfl ?_
        refine v_getf (pc := 40) (v := .inl 0) hO cp_X4 6 q2131 hr.ob (by decide) rfl dX4_isTarget_40 ?_
        refine v_if_ne (pc := 43) (tgt := 50) hO dX4_isTarget_43 (by decide) (by unfold zR; omega) (fun c43 => absurd c43 (by omega)) (fun c43 => ?_)
        refine v_iconst (pc := 46) hO dX4_isTarget_46 ?_
        refine v_goto (pc := 47) (tgt := 51) hO dX4_isTarget_47 (by decide) ?_
        exact v_zret hO dX4_isTarget_51 rfl (by decide +kernel) (Nat.le_of_ble_eq_true rfl) (Nat.le_of_ble_eq_true rfl) (Or.inl ⟨by omega, rfl, hr⟩)
    · refine v_iconst (pc := 18) hO dX4_isTarget_18 ?_
      refine v_goto (pc := 19) (tgt := 36) hO dX4_isTarget_19 (by decide) ?_
      refine r_puti (pc := 36) (S2 := (rS S 6 1)) hO hr hA 6 rn_6 q2131 rfl (by first | assumption | exact hr.zA 0 _ | exact hr.zA 8 _ | exact hr.zA 9 _ | exact hr.zS _ | exact hMz _ | exact hMz1 _ | exact zw_R _ | (unfold zR; omega)) dX4_isTarget_36 (fun h hr => ?_)
      refine v_aload_n (pc := 39) hO dX4_isTarget_39 rfl ?_
      refine v_getf (pc := 40) (v := .inl 1) hO cp_X4 6 q2131 hr.ob (by decide) rfl dX4_isTarget_40 ?_
      refine v_if_ne (pc := 43) (tgt := 50) hO dX4_isTarget_43 (by decide) (by unfold zR; omega) (fun c43 => ?_) (fun c43 => absurd c43 (by omega))
      refine v_iconst (pc := 50) hO dX4_isTarget_50 ?_
      exact v_zret hO dX4_isTarget_51 rfl (by decide +kernel) (Nat.le_of_ble_eq_true rfl) (Nat.le_of_ble_eq_true rfl) (Or.inr (Or.inl ⟨by omega, rfl, hr⟩))
