/-! STRINGS: a literal or one that was made; length, charAt -/
set_option maxRecDepth 100000
def asc (bs : List Int) : Prop := bs.length < 2147483648 ∧ ∀ z : Nat, z < bs.length → 0 ≤ bs.getD z 0 ∧ bs.getD z 0 < 128
def BytAt (G : GT) (h : AH) (v : Nat) (bs : List Int) : Prop := TT G .byte v bs.length (fun j => .int (zi (bs.getD j 0))) ∨ h v = some (eB G bs.length (fun z => bs.getD z.toNat 0))
def StrV (G : GT) (h : AH) (t v : Nat) (bs : List Int) (hs hz : Int) : Prop := asc bs ∧ BytAt G h v bs ∧ ((OO G "java/lang/String" t ∧ OFo G "java/lang/String" "coder" "B" (.int 0) t ∧ OFo G "java/lang/String" "value" "[B" (.ref v) t ∧ OFo G "java/lang/String" "hash" "I" (.int (zi hs)) t ∧ OFo G "java/lang/String" "hashIsZero" "Z" (.int (zi hz)) t) ∨ h t = some (eo 24 [sref v, .inl 0, .inl hs, .inl hz]))
theorem StrV.lit {G : GT} {t : Nat} {bs : List Int} {hs hz : Int} (h : AH) (ha : asc bs) (hl : Ltx G t bs hs hz) : ∃ v, StrV G h t v bs hs hz := by
  obtain ⟨⟨h1, h2, v, h3, h4⟩, h5, h6⟩ := hl
  exact ⟨v, ha, Or.inl h4, Or.inl ⟨h1, h2, h3, h5, h6⟩⟩
theorem StrV.rcv {G : GT} {h : AH} {t v : Nat} {bs : List Int} {hs hz : Int} (H : StrV G h t v bs hs hz) : Rcv G h t "java/lang/String" := by
  rcases H.2.2 with q | q
  · exact Rcv.old q.1
  · exact Rcv.ob cp_J11 q
theorem cs_Z {G : GT} (hS : Start G) : ZZ G "java/lang/String" "COMPACT_STRINGS" "Z" (.int 1) := by
  have hn := hS.nw
  have hA : ∀ a : Nat, a < (gs G).heap.size → ¬ oldA G a := fun a h1 h2 => absurd h1 (Nat.not_lt.mpr h2)
  exact va_Zof (hS.1 _ q520) (hS.1 _ (lw_all_tbl q127)) (va_eqi (cj_sub hn [false, false, false, false, false, false, true, false, false, true])) hA
theorem si_Z {G : GT} (hS : Start G) : ∃ v : SV, (v = snull ∨ ∃ r, v = sref r) ∧ ZZ G "jdk/internal/util/Preconditions" "SIOOBE_FORMATTER" "Ljava/util/function/BiFunction;" (zv v) := by
  have hn := hS.nw
  have hA : ∀ a : Nat, a < (gs G).heap.size → ¬ oldA G a := fun a h1 h2 => absurd h1 (Nat.not_lt.mpr h2)
  rcases va_Zqof (hS.1 _ q539) (hS.1 _ (lw_all_tbl q133)) (cj_sub hn [false, false, false, false, false, false, true, false, true, false]) hA with q | ⟨t, q⟩
  · exact ⟨snull, Or.inl rfl, q⟩
  · exact ⟨sref t, Or.inr ⟨t, rfl⟩, q⟩
theorem ch_and : ∀ b : Fin 128, (zi (b.val : Int) &&& zi 255 = zi (b.val : Int)) ∧ ((zi (b.val : Int)).toUInt32 % 65536).toInt32 = zi (b.val : Int) ∧ narrow .char (.int (zi (b.val : Int))) = .int (zi (b.val : Int)) := by decide +kernel
theorem ch_at {b : Int} (h0 : 0 ≤ b) (h1 : b < 128) : (zi b &&& zi 255 = zi b) ∧ ((zi b).toUInt32 % 65536).toInt32 = zi b ∧ narrow .char (.int (zi b)) = .int (zi b) := by
  have e := ch_and ⟨b.toNat, by omega⟩
  rw [show ((⟨b.toNat, by omega⟩ : Fin 128).val : Int) = b from by show ((b.toNat : Nat) : Int) = b; omega] at e
  exact e
theorem shr_0 (a : Int) : zi a >>> (zi 0 &&& 31) = zi a := by
  rw [show zi 0 &&& 31 = 0 by decide]
  exact Int32.shiftRight_zero
section VStr
variable {X : XT} {G : GT} {A : Nat → Prop} {h0 : AH} {cc : ByteArray} {nL : Nat} {own : String} {rm : Room} {ret : Option FieldType} {Q : State → Prop} {h : AH} {k n : Nat} {pc : Nat} {lv : List (Nat × SV)} {st : List SV}
theorem r_sval (hO : OKX X G A cc nL own rm ret) {t v : Nat} {bs : List Int} {hs hz : Int} (H : StrV G h t v bs hs hz) {ix : Nat} (hq : Cond.fieldLink own ix "java/lang/String" "value" "[B" ∈ lw_all) (d : decode cc pc = .ok (.getfield ix, 3)) (kk : VV X G A h0 nL Q h k n (pc + 3) lv (sref v :: st)) : VV X G A h0 nL Q h k n pc lv (sref t :: st) := by
  rcases H.2.2 with ⟨g1, g2, g3, g4, g5⟩ | g
  · exact v_sgetf hO g3 hq d kk
  · exact v_getf hO cp_J11 0 hq g (by decide) rfl d kk
theorem r_scod (hO : OKX X G A cc nL own rm ret) {t v : Nat} {bs : List Int} {hs hz : Int} (H : StrV G h t v bs hs hz) {ix : Nat} (hq : Cond.fieldLink own ix "java/lang/String" "coder" "B" ∈ lw_all) (d : decode cc pc = .ok (.getfield ix, 3)) (kk : VV X G A h0 nL Q h k n (pc + 3) lv (.inl 0 :: st)) : VV X G A h0 nL Q h k n pc lv (sref t :: st) := by
  rcases H.2.2 with ⟨g1, g2, g3, g4, g5⟩ | g
  · exact v_sgetf hO (v := .inl 0) g2 hq d kk
  · exact v_getf hO cp_J11 1 hq g (by decide) rfl d kk
theorem r_btlen (hO : OKX X G A cc nL own rm ret) {v : Nat} {bs : List Int} (H : BytAt G h v bs) (d : decode cc pc = .ok (.arraylength, 1)) (kk : VV X G A h0 nL Q h k n (pc + 1) lv (.inl (bs.length : Int) :: st)) : VV X G A h0 nL Q h k n pc lv (sref v :: st) := by
  rcases H with g | g
  · exact v_tlen hO g d kk
  · exact v_alenB hO g d kk
theorem r_btld (hO : OKX X G A cc nL own rm ret) {v : Nat} {bs : List Int} (H : BytAt G h v bs) (hL : bs.length < 2147483648) {z : Int} (h1 : 0 ≤ z) (h2 : z < bs.length) (d : decode cc pc = .ok (.baload, 1)) (kk : VV X G A h0 nL Q h k n (pc + 1) lv (.inl (bs.getD z.toNat 0) :: st)) : VV X G A h0 nL Q h k n pc lv (.inl z :: sref v :: st) := by
  rcases H with g | g
  · exact v_tbald hO g h1 h2 (by omega) rfl d kk
  · exact v_bald hO g h1 h2 hL d kk
theorem v_callVR (hO : OKX X G A cc nL own rm ret) {y : MethodName} {bytes : ByteArray} {maxL np ix : Nat} {rty : Option FieldType} {rm1 : Room} {A1 : Nat → Prop} {b : Nat} {av : List SV} {post : Option SV → AH → Prop} {stk : List SV} {C : String} (hrec : Rcv G h b C) (hM : CC G y bytes maxL rty rm1 A1 (sref b :: av) h post) (hG : GoodIn lw_all (wsV own ix C y (ws_ y bytes maxL rty))) (hd : yOK y np) (hyc : y.cls = C) (hnp : av.length = np) (hst : stk = av.reverse ++ sref b :: st) (hfr : rm1.frames + 1 ≤ rm.frames) (hlo : 8 + (maxL + 11) + rm1.locals ≤ rm.locals) {k2 n2 : Nat} (hk : k + rm1.cells ≤ k2) (hk2 : k2 ≤ rm.cells) (hn : n + rm1.slots ≤ n2) (hn2 : n2 ≤ rm.slots) (d : decode cc pc = .ok (.invokevirtual ix, 3)) (kk : ∀ v h1, post v h1 → (∀ a, ¬ A1 a → h1 a = h a) → VV X G A h0 nL Q h1 k2 n2 (pc + 3) lv (ocons v st)) (hc : (st.map (fun v => (zv v).category)).sum ≤ 8 := by exact Nat.le_of_ble_eq_true rfl) (h1 : ∀ q, A1 q → A q := by exact fun _ q => q) (h2 : ∀ q, A q → h q = none → A1 q := by exact fun _ q _ => q) : VV X G A h0 nL Q h k n pc lv stk := by
  refine v_back (a := (((sref b :: av) : List SV).map zv).toArray) h1 hk hn kk (fun H locs ls hR hS hsz => ?_)
  have hpre := cP_at (av := (sref b :: av)) hO.kk hR hS hO.A1 hO.A2 h1 h2
  subst hst
  rw [hO.l]
  refine va_runV (As := av.map zv) ⟨hO.x, hO.b, hO.ml, hO.ow, hO.ts⟩ hM (cwV np hO.ts hG rfl rfl rfl ⟨hyc, hd⟩ (by rw [hO.R]; exact ⟨hfr, hlo⟩)) ⟨cP_blind G A1 _ h, hrec H _ hR hO.kk, hpre⟩ rfl ((List.length_map _).trans hnp) hsz ?_ (lv_room (zv_cat hc)) d ⟨by rw [hO.R]; omega, by rw [hO.R]; omega⟩
  rw [show (av.reverse ++ sref b :: st).map zv = (av.map zv).reverse ++ (sref b :: st).map zv from zv_rev av _]; rfl
end VStr
theorem yo_J11_coder : yOK yJ11_coder 0 := by unfold yOK; exact ⟨by decide +kernel, by decide +kernel, by decide +kernel⟩
set_option maxRecDepth 100000 in
theorem m_scoder {G : GT} {h : AH} {t v : Nat} {bs : List Int} {hs0 hz0 : Int} (hs : StrV G h t v bs hs0 hz0) {A : Nat → Prop}  : CC G yJ11_coder cJ11_coder 1 (some .byte) ({ frames := 1, cells := 0, slots := 0, locals := 12 } : Room) A [sref t] h (fun v h1 => v = some (.inl 0) ∧ h = h1) := by
  refine CC.of (by decide +kernel) [(0, sref t)] rfl (Nat.le_of_ble_eq_true rfl) (fun X hnm hO => ?_)
  have ha := hs.1
  have hb := hs.2.1
  have hal := ha.1
  refine v_gets (pc := 0) (v := .inl 1) hO (cs_Z hO.kk.1) q519 dJ11_coder_0 ?_
  refine v_if_eq (pc := 3) (tgt := 13) hO dJ11_coder_3 (by decide) (by unfold zR; omega) (fun c3 => absurd c3 (by omega)) (fun c3 => ?_)
  refine v_aload_n (pc := 6) hO dJ11_coder_6 rfl ?_
  refine r_scod (pc := 7) hO hs q850 dJ11_coder_7 ?_
  refine v_goto (pc := 10) (tgt := 14) hO dJ11_coder_10 (by decide) ?_
  exact v_zret hO dJ11_coder_14 rfl (by decide +kernel) (Nat.le_of_ble_eq_true rfl) (Nat.le_of_ble_eq_true rfl) ⟨rfl, rfl⟩
theorem yo_J11_isLatin1 : yOK yJ11_isLatin1 0 := by unfold yOK; exact ⟨by decide +kernel, by decide +kernel, by decide +kernel⟩
set_option maxRecDepth 100000 in
theorem m_isLatin1 {G : GT} {h : AH} {t v : Nat} {bs : List Int} {hs0 hz0 : Int} (hs : StrV G h t v bs hs0 hz0) {A : Nat → Prop}  : CC G yJ11_isLatin1 cJ11_isLatin1 1 (some .boolean) ({ frames := 1, cells := 0, slots := 0, locals := 12 } : Room) A [sref t] h (fun v h1 => v = some (.inl 1) ∧ h = h1) := by
  refine CC.of (by decide +kernel) [(0, sref t)] rfl (Nat.le_of_ble_eq_true rfl) (fun X hnm hO => ?_)
  have ha := hs.1
  have hb := hs.2.1
  have hal := ha.1
  refine v_gets (pc := 0) (v := .inl 1) hO (cs_Z hO.kk.1) q519 dJ11_isLatin1_0 ?_
  refine v_if_eq (pc := 3) (tgt := 17) hO dJ11_isLatin1_3 (by decide) (by unfold zR; omega) (fun c3 => absurd c3 (by omega)) (fun c3 => ?_)
  refine v_aload_n (pc := 6) hO dJ11_isLatin1_6 rfl ?_
  refine r_scod (pc := 7) hO hs q850 dJ11_isLatin1_7 ?_
  refine v_if_ne (pc := 10) (tgt := 17) hO dJ11_isLatin1_10 (by decide) (by unfold zR; omega) (fun c10 => absurd c10 (by omega)) (fun c10 => ?_)
  refine v_iconst (pc := 13) hO dJ11_isLatin1_13 ?_
  refine v_goto (pc := 14) (tgt := 18) hO dJ11_isLatin1_14 (by decide) ?_
  exact v_zret hO dJ11_isLatin1_18 rfl (by decide +kernel) (Nat.le_of_ble_eq_true rfl) (Nat.le_of_ble_eq_true rfl) ⟨rfl, rfl⟩
theorem yo_J11_length : yOK yJ11_length 0 := by unfold yOK; exact ⟨by decide +kernel, by decide +kernel, by decide +kernel⟩
set_option maxRecDepth 100000 in
theorem m_slength {G : GT} {h : AH} {t v : Nat} {bs : List Int} {hs0 hz0 : Int} (hs : StrV G h t v bs hs0 hz0) {A : Nat → Prop}  : CC G yJ11_length cJ11_length 1 (some .int) ({ frames := 2, cells := 0, slots := 0, locals := 32 } : Room) A [sref t] h (fun v h1 => v = some (.inl (bs.length : Int)) ∧ h = h1) := by
  refine CC.of (by decide +kernel) [(0, sref t)] rfl (Nat.le_of_ble_eq_true rfl) (fun X hnm hO => ?_)
  have ha := hs.1
  have hb := hs.2.1
  have hal := ha.1
  refine v_aload_n (pc := 0) hO dJ11_length_0 rfl ?_
  refine r_sval (pc := 1) hO hs q849 dJ11_length_1 ?_
  refine r_btlen (pc := 4) hO hb dJ11_length_4 ?_
  refine v_aload_n (pc := 5) hO dJ11_length_5 rfl ?_
  refine v_callVR (pc := 6) (b := t) hO hs.rcv (m_scoder hs) (lw_V q515 q516 q517 q127 q518) yo_J11_coder rfl rfl rfl (by decide) (by decide) (k2 := 0) (n2 := 0) (by decide) (by decide) (by decide) (by decide) dJ11_length_6 (fun va hv hp hf1 => ?_)
  obtain ⟨rfl, rfl⟩ := hp
  refine v_ishr (pc := 9) (z := (bs.length : Int)) hO dJ11_length_9 (shr_0 _) ?_
  exact v_iret hO dJ11_length_10 rfl (Nat.le_of_ble_eq_true rfl) (Nat.le_of_ble_eq_true rfl) ⟨rfl, rfl⟩
theorem yo_J16_checkIndex : yOK yJ16_checkIndex 3 := by unfold yOK; exact ⟨by decide +kernel, by decide +kernel, by decide +kernel⟩
set_option maxRecDepth 100000 in
theorem m_pcheckIndex {G : GT} {h : AH}  {A : Nat → Prop} (i n0 : Int) (r : Nat) (hi0 : 0 ≤ i) (hi1 : i < n0) (hn : n0 < 2147483648) : CC G yJ16_checkIndex cJ16_checkIndex 3 (some .int) ({ frames := 1, cells := 0, slots := 0, locals := 12 } : Room) A [.inl i, .inl n0, sref r] h (fun v h1 => v = some (.inl i) ∧ h = h1) := by
  refine CC.of (by decide +kernel) [(0, .inl i), (1, .inl n0), (2, sref r)] rfl (Nat.le_of_ble_eq_true rfl) (fun X hnm hO => ?_)
  refine v_iload_n (pc := 0) hO dJ16_checkIndex_0 rfl ?_
  refine v_if_lt (pc := 1) (tgt := 9) hO dJ16_checkIndex_1 (by decide) (by first | assumption | (unfold zR; omega)) (fun c1 => ?_) (fun c1 => ?_)
  · exact absurd hi1 (by omega)
  · refine v_iload_n (pc := 4) hO dJ16_checkIndex_4 rfl ?_
    refine v_iload_n (pc := 5) hO dJ16_checkIndex_5 rfl ?_
    refine v_icmp_lt (pc := 6) (tgt := 16) hO dJ16_checkIndex_6 (by decide) (by first | assumption | (unfold zR; omega)) (by first | assumption | (unfold zR; omega)) (fun c6 => ?_) (fun c6 => ?_)
    · refine v_iload_n (pc := 16) hO dJ16_checkIndex_16 rfl ?_
      exact v_iret hO dJ16_checkIndex_17 rfl (Nat.le_of_ble_eq_true rfl) (Nat.le_of_ble_eq_true rfl) ⟨rfl, rfl⟩
    · exact absurd hi1 (by omega)
set_option maxRecDepth 100000 in
theorem m_pcheckIndexN {G : GT} {h : AH}  {A : Nat → Prop} (i n0 : Int) (hi0 : 0 ≤ i) (hi1 : i < n0) (hn : n0 < 2147483648) : CC G yJ16_checkIndex cJ16_checkIndex 3 (some .int) ({ frames := 1, cells := 0, slots := 0, locals := 12 } : Room) A [.inl i, .inl n0, snull] h (fun v h1 => v = some (.inl i) ∧ h = h1) := by
  refine CC.of (by decide +kernel) [(0, .inl i), (1, .inl n0), (2, snull)] rfl (Nat.le_of_ble_eq_true rfl) (fun X hnm hO => ?_)
  refine v_iload_n (pc := 0) hO dJ16_checkIndex_0 rfl ?_
  refine v_if_lt (pc := 1) (tgt := 9) hO dJ16_checkIndex_1 (by decide) (by first | assumption | (unfold zR; omega)) (fun c1 => ?_) (fun c1 => ?_)
  · exact absurd hi1 (by omega)
  · refine v_iload_n (pc := 4) hO dJ16_checkIndex_4 rfl ?_
    refine v_iload_n (pc := 5) hO dJ16_checkIndex_5 rfl ?_
    refine v_icmp_lt (pc := 6) (tgt := 16) hO dJ16_checkIndex_6 (by decide) (by first | assumption | (unfold zR; omega)) (by first | assumption | (unfold zR; omega)) (fun c6 => ?_) (fun c6 => ?_)
    · refine v_iload_n (pc := 16) hO dJ16_checkIndex_16 rfl ?_
      exact v_iret hO dJ16_checkIndex_17 rfl (Nat.le_of_ble_eq_true rfl) (Nat.le_of_ble_eq_true rfl) ⟨rfl, rfl⟩
    · exact absurd hi1 (by omega)
theorem yo_J11_checkIndex : yOK yJ11_checkIndex 2 := by unfold yOK; exact ⟨by decide +kernel, by decide +kernel, by decide +kernel⟩
set_option maxRecDepth 100000 in
theorem m_scheckIndex {G : GT} {h : AH}  {A : Nat → Prop} (i n0 : Int) (hi0 : 0 ≤ i) (hi1 : i < n0) (hn : n0 < 2147483648) : CC G yJ11_checkIndex cJ11_checkIndex 2 (none) ({ frames := 2, cells := 0, slots := 0, locals := 34 } : Room) A [.inl i, .inl n0] h (fun v h1 => v = none ∧ h = h1) := by
  refine CC.of (by decide +kernel) [(0, .inl i), (1, .inl n0)] rfl (Nat.le_of_ble_eq_true rfl) (fun X hnm hO => ?_)
  refine v_iload_n (pc := 0) hO dJ11_checkIndex_0 rfl ?_
  refine v_iload_n (pc := 1) hO dJ11_checkIndex_1 rfl ?_
  obtain ⟨sv, hsv, hsz⟩ := si_Z hO.kk.1
  rcases hsv with rfl | ⟨r, rfl⟩
  · refine v_gets (pc := 2) (v := snull) hO hsz q538 dJ11_checkIndex_2 ?_
    refine v_callS (pc := 5) hO (m_pcheckIndexN i n0  (by omega) (by omega) (by omega)) (lw_S q540 q361 q133 q362) yo_J16_checkIndex rfl rfl (by decide) (by decide) (k2 := 0) (n2 := 0) (by decide) (by decide) (by decide) (by decide) dJ11_checkIndex_5 (fun va hv hp hf1 => ?_)
    obtain ⟨rfl, rfl⟩ := hp
    refine v_pop (pc := 8) hO dJ11_checkIndex_8 rfl ?_
    exact v_vret hO dJ11_checkIndex_9 rfl (Nat.le_of_ble_eq_true rfl) (Nat.le_of_ble_eq_true rfl) ⟨rfl, rfl⟩
  · refine v_gets (pc := 2) (v := sref r) hO hsz q538 dJ11_checkIndex_2 ?_
    refine v_callS (pc := 5) hO (m_pcheckIndex i n0 r (by omega) (by omega) (by omega)) (lw_S q540 q361 q133 q362) yo_J16_checkIndex rfl rfl (by decide) (by decide) (k2 := 0) (n2 := 0) (by decide) (by decide) (by decide) (by decide) dJ11_checkIndex_5 (fun va hv hp hf1 => ?_)
    obtain ⟨rfl, rfl⟩ := hp
    refine v_pop (pc := 8) hO dJ11_checkIndex_8 rfl ?_
    exact v_vret hO dJ11_checkIndex_9 rfl (Nat.le_of_ble_eq_true rfl) (Nat.le_of_ble_eq_true rfl) ⟨rfl, rfl⟩
theorem yo_J15_charAt : yOK yJ15_charAt 2 := by unfold yOK; exact ⟨by decide +kernel, by decide +kernel, by decide +kernel⟩
set_option maxRecDepth 100000 in
theorem m_lcharAt {G : GT} {h : AH}  {A : Nat → Prop} {v : Nat} {bs : List Int} (hb : BytAt G h v bs) (ha : asc bs) (i : Int) (hi0 : 0 ≤ i) (hi1 : i < bs.length) : CC G yJ15_charAt cJ15_charAt 2 (some .char) ({ frames := 3, cells := 0, slots := 0, locals := 55 } : Room) A [sref v, .inl i] h (fun v h1 => v = some (.inl (bs.getD i.toNat 0)) ∧ h = h1) := by
  refine CC.of (by decide +kernel) [(0, sref v), (1, .inl i)] rfl (Nat.le_of_ble_eq_true rfl) (fun X hnm hO => ?_)
  have hal := ha.1
  have hbi := ha.2 i.toNat (by omega)
  refine v_iload_n (pc := 0) hO dJ15_charAt_0 rfl ?_
  refine v_aload_n (pc := 1) hO dJ15_charAt_1 rfl ?_
  refine r_btlen (pc := 2) hO hb dJ15_charAt_2 ?_
  refine v_callS (pc := 3) hO (m_scheckIndex i ((bs.length : Int)) (by omega) (by omega) (by omega)) (lw_S q535 q536 q127 q537) yo_J11_checkIndex rfl rfl (by decide) (by decide) (k2 := 0) (n2 := 0) (by decide) (by decide) (by decide) (by decide) dJ15_charAt_3 (fun va hv hp hf1 => ?_)
  obtain ⟨rfl, rfl⟩ := hp
  refine v_aload_n (pc := 6) hO dJ15_charAt_6 rfl ?_
  refine v_iload_n (pc := 7) hO dJ15_charAt_7 rfl ?_
  refine r_btld (pc := 8) hO hb ha.1 (by omega) (by omega) dJ15_charAt_8 ?_
  refine v_sipush (pc := 9) hO dJ15_charAt_9 (by decide +kernel) ?_
  refine v_iand (pc := 12) (z := bs.getD (i).toNat 0) hO dJ15_charAt_12 (ch_at (by omega) (by omega)).1 ?_
  refine v_i2c (pc := 13) (z := bs.getD (i).toNat 0) hO dJ15_charAt_13 (ch_at (by omega) (by omega)).2.1 ?_
  exact v_zret hO dJ15_charAt_14 rfl (ch_at (by omega) (by omega)).2.2 (Nat.le_of_ble_eq_true rfl) (Nat.le_of_ble_eq_true rfl) ⟨rfl, rfl⟩
theorem yo_J11_charAt : yOK yJ11_charAt 1 := by unfold yOK; exact ⟨by decide +kernel, by decide +kernel, by decide +kernel⟩
set_option maxRecDepth 100000 in
theorem m_scharAt {G : GT} {h : AH} {t v : Nat} {bs : List Int} {hs0 hz0 : Int} (hs : StrV G h t v bs hs0 hz0) {A : Nat → Prop} (i : Int) (hi0 : 0 ≤ i) (hi1 : i < bs.length) : CC G yJ11_charAt cJ11_charAt 2 (some .char) ({ frames := 4, cells := 0, slots := 0, locals := 76 } : Room) A [sref t, .inl i] h (fun v h1 => v = some (.inl (bs.getD i.toNat 0)) ∧ h = h1) := by
  refine CC.of (by decide +kernel) [(0, sref t), (1, .inl i)] rfl (Nat.le_of_ble_eq_true rfl) (fun X hnm hO => ?_)
  have ha := hs.1
  have hb := hs.2.1
  have hal := ha.1
  refine v_aload_n (pc := 0) hO dJ11_charAt_0 rfl ?_
  refine v_callVR (pc := 1) (b := t) hO hs.rcv (m_isLatin1 hs) (lw_V q528 q529 q530 q127 q531) yo_J11_isLatin1 rfl rfl rfl (by decide) (by decide) (k2 := 0) (n2 := 0) (by decide) (by decide) (by decide) (by decide) dJ11_charAt_1 (fun va hv hp hf1 => ?_)
  obtain ⟨rfl, rfl⟩ := hp
  refine v_if_eq (pc := 4) (tgt := 16) hO dJ11_charAt_4 (by decide) (by unfold zR; omega) (fun c4 => absurd c4 (by omega)) (fun c4 => ?_)
  refine v_aload_n (pc := 7) hO dJ11_charAt_7 rfl ?_
  refine r_sval (pc := 8) hO hs q849 dJ11_charAt_8 ?_
  refine v_iload_n (pc := 11) hO dJ11_charAt_11 rfl ?_
  refine v_callS (pc := 12) hO (m_lcharAt hb ha i (by omega) (by omega)) (lw_S q532 q533 q132 q534) yo_J15_charAt rfl rfl (by decide) (by decide) (k2 := 0) (n2 := 0) (by decide) (by decide) (by decide) (by decide) dJ11_charAt_12 (fun va hv hp hf1 => ?_)
  obtain ⟨rfl, rfl⟩ := hp
  exact v_zret hO dJ11_charAt_15 rfl (ch_at (ha.2 i.toNat (by omega)).1 (ha.2 i.toNat (by omega)).2).2.2 (Nat.le_of_ble_eq_true rfl) (Nat.le_of_ble_eq_true rfl) ⟨rfl, rfl⟩
