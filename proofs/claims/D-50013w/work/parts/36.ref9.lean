/-! THE REFERENCE, 8: operations -/
set_option maxRecDepth 100000
theorem mpk_picB {M : Int → Int} {p x y : Int} (h : picB M p) (hx : inb x 0 11) (hy : inb y 0 11) : picB (mpkM M p x y) p := by
  unfold mpkM
  obtain ⟨a, b, c, d, e, f⟩ := h
  refine ⟨?_, ?_, ?_, ?_, ?_, ?_⟩
  · rw [zupd_n (by omega), zupd_s]; exact hx
  · rw [zupd_s]; exact hy
  · rw [zupd_n (by omega), zupd_n (by omega)]; exact c
  · rw [zupd_n (by omega), zupd_n (by omega)]; exact d
  · rw [zupd_n (by omega), zupd_n (by omega)]; exact e
  · rw [zupd_n (by omega), zupd_n (by omega)]; exact f
theorem wal_in {M : Int → Int} (hB : Bq M) {x y : Int} (hc : cellM M x y) : M (784 + 12 * y + x) = 0 ∨ M (784 + 12 * y + x) = 1 := by
  have hd := hB.hd
  have e9 := hB.2.2.2.2.2.2.1 (12 * y + x) (by omega) (by omega)
  rwa [show 784 + (12 * y + x) = 784 + 12 * y + x by omega] at e9
theorem wal_n {M : Int → Int} (hB : Bq M) : 0 ≤ M 6 ∧ M 6 ≤ 144 := by
  have h6 := hB.2.2.2.2.2.2.2
  have c9 := cntI_le (fun c => decide (M (784 + c) = 1)) 144 0
  rw [← h6] at c9
  exact ⟨c9.1, by have := c9.2; omega⟩
def mdS (M : Int → Int) (o : Int) : Int := if M (64 + 10 * o + 5) ≠ -1 then M (64 + 10 * o + 5) - M (64 + 10 * o + 4) else 0
abbrev mdP (M : Int → Int) (o : Int) : Bool := decide (M (64 + 10 * o + 5) ≠ -1)
def mdlM (M : Int → Int) : UInt64 := if cntI (mdP M) (M 4 - 0).toNat 0 = 0 then FP.dconst0 else FP.ddiv (FP.i2d (zi (sumI (mdS M) (M 4 - 0).toNat 0))) (FP.i2d (zi (cntI (mdP M) (M 4 - 0).toNat 0)))
def sucM (M : Int → Int) : UInt32 := if M 4 = 0 then FP.fconst0 else FP.fdiv (FP.i2f (zi (stcM M 2))) (FP.i2f (zi (M 4)))
def lowM (M : Int → Int) (x y : Int) : Int := fstI (hl1P M x y) (M 2 - 0).toNat 0
abbrev msgP (M : Int → Int) (x y : Int) : Prop := anyI (hl2P M x y) (M 4 - 0).toNat 0 = true
def symM (M : Int → Int) (x y : Int) : Int := if lowM M x y ≠ -1 then 48 + lowM M x y else if msgP M x y then 109 else if M 10 = x ∧ M 11 = y then 104 else if wchM M x y (M 5) ≠ -1 then 33 else if freM M x y then 46 else 35
abbrev hldP (M : Int → Int) (x y : Int) : Prop := hldM M x y = true
abbrev golQ (M : Int → Int) (x y : Int) : Prop := golM M x y = true
theorem yo_X4_isHeld : yOK yX4_isHeld 2 := by unfold yOK; exact ⟨by decide +kernel, by decide +kernel, by decide +kernel⟩
set_option maxRecDepth 100000 in
theorem m_isHeld {G : GT} {h : AH} {am : Nat} {ad : Nat → Nat} {nmf : Int → Option Nat} {S : Nat → Int} {Ar : Nat → Int → Int} {M : Int → Int} (hr : RefAt G h am ad nmf S (rA Ar 0 M)) {A : Nat → Prop} (x y : Int) (zx : zR x) (zy : zR y) (hB : Bq M) : CC G yX4_isHeld cX4_isHeld 5 (some .boolean) ({ frames := 3, cells := 0, slots := 0, locals := 55 } : Room) A [sref am, .inl x, .inl y] h (fun v h1 => v = some (.inl (b2i (decide (hldP M x y)))) ∧ h = h1) := by
  refine CC.of (by decide +kernel) [(0, sref am), (1, .inl x), (2, .inl y)] rfl (Nat.le_of_ble_eq_true rfl) (fun X hnm hO => ?_)
  have hMz : ∀ z, zR (M z) := fun z => hr.zA 0 z
  have hd := hB.hd
  have h2 := hB.1.2.1
  have h4 := hB.h4
  have h5 := hB.1.2.2.2.1
  have h8 := hB.1.2.2.2.2.1
  have hpics := hB.pics
  have h3 := hpics.1
  have h7 := hB.h7
  have h9m := hB.1.2.2.2.2.2.1
  refine v_aload_n (pc := 0) hO dX4_isHeld_0 rfl ?_
  refine v_getf (pc := 1) (v := sref (ad 0)) hO cp_X4 0 q2125 hr.ob (by decide) rfl dX4_isHeld_1 ?_
  refine v_bipush (pc := 4) hO dX4_isHeld_4 (by decide +kernel) ?_
  refine r_iald (pc := 6) (w := M 10) (L := 3934) hO hr 0 ri_0 rfl rfl (by omega) (by omega) dX4_isHeld_6 ?_
  refine v_iload_n (pc := 7) hO dX4_isHeld_7 rfl ?_
  refine v_icmp_ne (pc := 8) (tgt := 26) hO dX4_isHeld_8 (by decide) (by first | assumption | exact hr.zA 0 _ | exact hr.zA 8 _ | exact hr.zA 9 _ | exact hr.zS _ | exact hMz _ | exact hMz1 _ | exact zw_R _ | (unfold zR; omega)) (by first | assumption | exact hr.zA 0 _ | exact hr.zA 8 _ | exact hr.zA 9 _ | exact hr.zS _ | exact hMz _ | exact hMz1 _ | exact zw_R _ | (unfold zR; omega)) (fun c8 => ?_) (fun c8 => ?_)
  · refine v_iconst (pc := 26) hO dX4_isHeld_26 ?_
    refine v_istore_n (pc := 27) hO (lv' := [(3, .inl 0), (0, sref am), (1, .inl x), (2, .inl y)]) dX4_isHeld_27 (by decide) rfl ?_
    refine v_iconst (pc := 28) hO dX4_isHeld_28 ?_
    refine v_istore (pc := 29) hO (lv' := [(4, .inl 0), (3, .inl 0), (0, sref am), (1, .inl x), (2, .inl y)]) dX4_isHeld_29 (by decide) rfl ?_
    refine v_pick (lv2 := [(0, sref am), (1, .inl x), (2, .inl y), (3, .inl (b2i false)), (4, .inl 0)]) [2, 3, 4, 1, 0] rfl ?_
    refine v_loop (σ := Int × Bool) (fun (i, Hb) => 0 ≤ i ∧ i ≤ M 2 ∧ hldM M x y = (Hb || anyI (hl1P M x y) (M 2 - i).toNat i || anyI (hl2P M x y) (M 4 - 0).toNat 0)) (fun (i, Hb) => (M 2 - i).toNat) (fun (i, Hb) => h) (fun (i, Hb) => [(0, sref am), (1, .inl x), (2, .inl y), (3, .inl (b2i Hb)), (4, .inl i)]) (0, false) ⟨Int.le_refl _, (by omega), (by unfold hldM; rw [decide_eq_false (p := M 10 = x ∧ M 11 = y) (by omega)])⟩ ?_
    rintro ⟨i, Hb⟩ ⟨hi0, hi1, hg⟩ ih
    show VV X G A _ _ _ h _ _ 31 [(0, sref am), (1, .inl x), (2, .inl y), (3, .inl (b2i Hb)), (4, .inl i)] []
    refine v_iload (pc := 31) hO dX4_isHeld_31 rfl ?_
    refine v_aload_n (pc := 33) hO dX4_isHeld_33 rfl ?_
    refine v_getf (pc := 34) (v := sref (ad 0)) hO cp_X4 0 q2125 hr.ob (by decide) rfl dX4_isHeld_34 ?_
    refine v_iconst (pc := 37) hO dX4_isHeld_37 ?_
    refine r_iald (pc := 38) (w := M 2) (L := 3934) hO hr 0 ri_0 rfl rfl (by omega) (by omega) dX4_isHeld_38 ?_
    refine v_icmp_ge (pc := 39) (tgt := 78) hO dX4_isHeld_39 (by decide) (by first | assumption | exact hr.zA 0 _ | exact hr.zA 8 _ | exact hr.zA 9 _ | exact hr.zS _ | exact hMz _ | exact hMz1 _ | exact zw_R _ | (unfold zR; omega)) (by first | assumption | exact hr.zA 0 _ | exact hr.zA 8 _ | exact hr.zA 9 _ | exact hr.zS _ | exact hMz _ | exact hMz1 _ | exact zw_R _ | (unfold zR; omega)) (fun c39 => ?_) (fun c39 => ?_)
    · refine v_iconst (pc := 78) hO dX4_isHeld_78 ?_
      refine v_istore (pc := 79) hO (lv' := [(4, .inl 0), (0, sref am), (1, .inl x), (2, .inl y), (3, .inl (b2i Hb))]) dX4_isHeld_79 (by decide) rfl ?_
      refine v_pick (lv2 := [(0, sref am), (1, .inl x), (2, .inl y), (3, .inl (b2i Hb)), (4, .inl 0)]) [1, 2, 3, 4, 0] rfl ?_
      refine v_loop (σ := Int × Bool) (fun (i, Hb) => 0 ≤ i ∧ i ≤ M 4 ∧ hldM M x y = (Hb || anyI (hl2P M x y) (M 4 - i).toNat i)) (fun (i, Hb) => (M 4 - i).toNat) (fun (i, Hb) => h) (fun (i, Hb) => [(0, sref am), (1, .inl x), (2, .inl y), (3, .inl (b2i Hb)), (4, .inl i)]) (0, Hb) ⟨Int.le_refl _, (by omega), (by rw [hg, anyI_e (by omega), Bool.or_false])⟩ ?_
      rintro ⟨i, Hb⟩ ⟨hi0, hi1, hg⟩ ih
      show VV X G A _ _ _ h _ _ 81 [(0, sref am), (1, .inl x), (2, .inl y), (3, .inl (b2i Hb)), (4, .inl i)] []
      refine v_iload (pc := 81) hO dX4_isHeld_81 rfl ?_
      refine v_aload_n (pc := 83) hO dX4_isHeld_83 rfl ?_
      refine v_getf (pc := 84) (v := sref (ad 0)) hO cp_X4 0 q2125 hr.ob (by decide) rfl dX4_isHeld_84 ?_
      refine v_iconst (pc := 87) hO dX4_isHeld_87 ?_
      refine r_iald (pc := 88) (w := M 4) (L := 3934) hO hr 0 ri_0 rfl rfl (by omega) (by omega) dX4_isHeld_88 ?_
      refine v_icmp_ge (pc := 89) (tgt := 140) hO dX4_isHeld_89 (by decide) (by first | assumption | exact hr.zA 0 _ | exact hr.zA 8 _ | exact hr.zA 9 _ | exact hr.zS _ | exact hMz _ | exact hMz1 _ | exact zw_R _ | (unfold zR; omega)) (by first | assumption | exact hr.zA 0 _ | exact hr.zA 8 _ | exact hr.zA 9 _ | exact hr.zS _ | exact hMz _ | exact hMz1 _ | exact zw_R _ | (unfold zR; omega)) (fun c89 => ?_) (fun c89 => ?_)
      · refine v_iload_n (pc := 140) hO dX4_isHeld_140 rfl ?_
        exact v_zret hO dX4_isHeld_141 rfl (nar_z (b2i_c _)) (Nat.le_of_ble_eq_true rfl) (Nat.le_of_ble_eq_true rfl) ⟨congrArg (fun z => some (Sum.inl z)) (by rw [Bool.decide_eq_true, hg, anyI_e (by omega), Bool.or_false]), rfl⟩
      · refine v_iload_n (pc := 92) hO dX4_isHeld_92 rfl ?_
        refine v_aload_n (pc := 93) hO dX4_isHeld_93 rfl ?_
        refine v_iload (pc := 94) hO dX4_isHeld_94 rfl ?_
        refine v_iconst (pc := 96) hO dX4_isHeld_96 ?_
        refine v_callV (pc := 97) (b := am) hO cp_X4 hr.ob (m_ofOrder hr i 3 (by omega) (by omega)) (lw_V q2245 q2247 qs38 q117 q2248) yo_X4_ofOrder rfl rfl rfl (by decide) (by decide) (k2 := 0) (n2 := 0) (by decide) (by decide) (by decide) (by decide) dX4_isHeld_97 (fun va hv hp hf1 => ?_)
        obtain ⟨rfl, rfl⟩ := hp
        refine v_if_ne (pc := 100) (tgt := 131) hO dX4_isHeld_100 (by decide) (by first | assumption | exact hr.zA 0 _ | exact hr.zA 8 _ | exact hr.zA 9 _ | exact hr.zS _ | exact hMz _ | exact hMz1 _ | exact zw_R _ | (unfold zR; omega)) (fun c100 => ?_) (fun c100 => ?_)
        · refine v_iconst (pc := 131) hO dX4_isHeld_131 ?_
          refine v_ior0 (pc := 132) hO dX4_isHeld_132 ?_
          refine v_istore_n (pc := 133) hO (lv' := [(3, .inl (b2i Hb)), (0, sref am), (1, .inl x), (2, .inl y), (4, .inl i)]) dX4_isHeld_133 (by decide) rfl ?_
          refine v_iinc (pc := 134) hO (lv' := [(4, .inl (i + 1)), (3, .inl (b2i Hb)), (0, sref am), (1, .inl x), (2, .inl y)]) dX4_isHeld_134 rfl (by decide) rfl ?_
          refine v_goto (pc := 137) (tgt := 81) hO dX4_isHeld_137 (by decide) ?_
          refine v_pick (lv2 := [(0, sref am), (1, .inl x), (2, .inl y), (3, .inl (b2i Hb)), (4, .inl ((i + 1)))]) [2, 3, 4, 1, 0] rfl ?_
          exact ih (i + 1, Hb) ⟨(by omega), (by omega), (by rw [hg, anyI_s (show i < M 4 by omega), show hl2P M x y i = false from decide_eq_false (by omega)]; cases Hb <;> rfl)⟩ (by show (M 4 - (i + 1)).toNat < (M 4 - i).toNat; omega)
        · refine v_aload_n (pc := 103) hO dX4_isHeld_103 rfl ?_
          refine v_iload (pc := 104) hO dX4_isHeld_104 rfl ?_
          refine v_bipush (pc := 106) hO dX4_isHeld_106 (by decide +kernel) ?_
          refine v_callV (pc := 108) (b := am) hO cp_X4 hr.ob (m_ofOrder hr i 7 (by omega) (by omega)) (lw_V q2245 q2247 qs38 q117 q2248) yo_X4_ofOrder rfl rfl rfl (by decide) (by decide) (k2 := 0) (n2 := 0) (by decide) (by decide) (by decide) (by decide) dX4_isHeld_108 (fun va hv hp hf1 => ?_)
          obtain ⟨rfl, rfl⟩ := hp
          refine v_iload_n (pc := 111) hO dX4_isHeld_111 rfl ?_
          refine v_icmp_ne (pc := 112) (tgt := 131) hO dX4_isHeld_112 (by decide) (by first | assumption | exact hr.zA 0 _ | exact hr.zA 8 _ | exact hr.zA 9 _ | exact hr.zS _ | exact hMz _ | exact hMz1 _ | exact zw_R _ | (unfold zR; omega)) (by first | assumption | exact hr.zA 0 _ | exact hr.zA 8 _ | exact hr.zA 9 _ | exact hr.zS _ | exact hMz _ | exact hMz1 _ | exact zw_R _ | (unfold zR; omega)) (fun c112 => ?_) (fun c112 => ?_)
          · refine v_iconst (pc := 131) hO dX4_isHeld_131 ?_
            refine v_ior0 (pc := 132) hO dX4_isHeld_132 ?_
            refine v_istore_n (pc := 133) hO (lv' := [(3, .inl (b2i Hb)), (0, sref am), (1, .inl x), (2, .inl y), (4, .inl i)]) dX4_isHeld_133 (by decide) rfl ?_
            refine v_iinc (pc := 134) hO (lv' := [(4, .inl (i + 1)), (3, .inl (b2i Hb)), (0, sref am), (1, .inl x), (2, .inl y)]) dX4_isHeld_134 rfl (by decide) rfl ?_
            refine v_goto (pc := 137) (tgt := 81) hO dX4_isHeld_137 (by decide) ?_
            refine v_pick (lv2 := [(0, sref am), (1, .inl x), (2, .inl y), (3, .inl (b2i Hb)), (4, .inl ((i + 1)))]) [2, 3, 4, 1, 0] rfl ?_
            exact ih (i + 1, Hb) ⟨(by omega), (by omega), (by rw [hg, anyI_s (show i < M 4 by omega), show hl2P M x y i = false from decide_eq_false (by omega)]; cases Hb <;> rfl)⟩ (by show (M 4 - (i + 1)).toNat < (M 4 - i).toNat; omega)
          · refine v_aload_n (pc := 115) hO dX4_isHeld_115 rfl ?_
            refine v_iload (pc := 116) hO dX4_isHeld_116 rfl ?_
            refine v_bipush (pc := 118) hO dX4_isHeld_118 (by decide +kernel) ?_
            refine v_callV (pc := 120) (b := am) hO cp_X4 hr.ob (m_ofOrder hr i 8 (by omega) (by omega)) (lw_V q2245 q2247 qs38 q117 q2248) yo_X4_ofOrder rfl rfl rfl (by decide) (by decide) (k2 := 0) (n2 := 0) (by decide) (by decide) (by decide) (by decide) dX4_isHeld_120 (fun va hv hp hf1 => ?_)
            obtain ⟨rfl, rfl⟩ := hp
            refine v_iload_n (pc := 123) hO dX4_isHeld_123 rfl ?_
            refine v_icmp_ne (pc := 124) (tgt := 131) hO dX4_isHeld_124 (by decide) (by first | assumption | exact hr.zA 0 _ | exact hr.zA 8 _ | exact hr.zA 9 _ | exact hr.zS _ | exact hMz _ | exact hMz1 _ | exact zw_R _ | (unfold zR; omega)) (by first | assumption | exact hr.zA 0 _ | exact hr.zA 8 _ | exact hr.zA 9 _ | exact hr.zS _ | exact hMz _ | exact hMz1 _ | exact zw_R _ | (unfold zR; omega)) (fun c124 => ?_) (fun c124 => ?_)
            · refine v_iconst (pc := 131) hO dX4_isHeld_131 ?_
              refine v_ior0 (pc := 132) hO dX4_isHeld_132 ?_
              refine v_istore_n (pc := 133) hO (lv' := [(3, .inl (b2i Hb)), (0, sref am), (1, .inl x), (2, .inl y), (4, .inl i)]) dX4_isHeld_133 (by decide) rfl ?_
              refine v_iinc (pc := 134) hO (lv' := [(4, .inl (i + 1)), (3, .inl (b2i Hb)), (0, sref am), (1, .inl x), (2, .inl y)]) dX4_isHeld_134 rfl (by decide) rfl ?_
              refine v_goto (pc := 137) (tgt := 81) hO dX4_isHeld_137 (by decide) ?_
              refine v_pick (lv2 := [(0, sref am), (1, .inl x), (2, .inl y), (3, .inl (b2i Hb)), (4, .inl ((i + 1)))]) [2, 3, 4, 1, 0] rfl ?_
              exact ih (i + 1, Hb) ⟨(by omega), (by omega), (by rw [hg, anyI_s (show i < M 4 by omega), show hl2P M x y i = false from decide_eq_false (by omega)]; cases Hb <;> rfl)⟩ (by show (M 4 - (i + 1)).toNat < (M 4 - i).toNat; omega)
            · refine v_iconst (pc := 127) hO dX4_isHeld_127 ?_
              refine v_goto (pc := 128) (tgt := 132) hO dX4_isHeld_128 (by decide) ?_
              refine v_ior1 (pc := 132) hO dX4_isHeld_132 ?_
              refine v_istore_n (pc := 133) hO (lv' := [(3, .inl (b2i true)), (0, sref am), (1, .inl x), (2, .inl y), (4, .inl i)]) dX4_isHeld_133 (by decide) rfl ?_
              refine v_iinc (pc := 134) hO (lv' := [(4, .inl (i + 1)), (3, .inl (b2i true)), (0, sref am), (1, .inl x), (2, .inl y)]) dX4_isHeld_134 rfl (by decide) rfl ?_
              refine v_goto (pc := 137) (tgt := 81) hO dX4_isHeld_137 (by decide) ?_
              refine v_pick (lv2 := [(0, sref am), (1, .inl x), (2, .inl y), (3, .inl (b2i true)), (4, .inl ((i + 1)))]) [2, 3, 4, 1, 0] rfl ?_
              exact ih (i + 1, true) ⟨(by omega), (by omega), (by rw [hg, anyI_s (show i < M 4 by omega), show hl2P M x y i = true from decide_eq_true (by omega)]; cases Hb <;> rfl)⟩ (by show (M 4 - (i + 1)).toNat < (M 4 - i).toNat; omega)
    · refine v_iload_n (pc := 42) hO dX4_isHeld_42 rfl ?_
      refine v_aload_n (pc := 43) hO dX4_isHeld_43 rfl ?_
      refine v_iload (pc := 44) hO dX4_isHeld_44 rfl ?_
      refine v_iconst (pc := 46) hO dX4_isHeld_46 ?_
      refine v_callV (pc := 47) (b := am) hO cp_X4 hr.ob (m_ofUnit hr i 0 (by omega) (by omega)) (lw_V q2234 q2236 qs36 q117 q2237) yo_X4_ofUnit rfl rfl rfl (by decide) (by decide) (k2 := 0) (n2 := 0) (by decide) (by decide) (by decide) (by decide) dX4_isHeld_47 (fun va hv hp hf1 => ?_)
      obtain ⟨rfl, rfl⟩ := hp
      refine v_iload_n (pc := 50) hO dX4_isHeld_50 rfl ?_
      refine v_icmp_ne (pc := 51) (tgt := 69) hO dX4_isHeld_51 (by decide) (by first | assumption | exact hr.zA 0 _ | exact hr.zA 8 _ | exact hr.zA 9 _ | exact hr.zS _ | exact hMz _ | exact hMz1 _ | exact zw_R _ | (unfold zR; omega)) (by first | assumption | exact hr.zA 0 _ | exact hr.zA 8 _ | exact hr.zA 9 _ | exact hr.zS _ | exact hMz _ | exact hMz1 _ | exact zw_R _ | (unfold zR; omega)) (fun c51 => ?_) (fun c51 => ?_)
      · refine v_iconst (pc := 69) hO dX4_isHeld_69 ?_
        refine v_ior0 (pc := 70) hO dX4_isHeld_70 ?_
        refine v_istore_n (pc := 71) hO (lv' := [(3, .inl (b2i Hb)), (0, sref am), (1, .inl x), (2, .inl y), (4, .inl i)]) dX4_isHeld_71 (by decide) rfl ?_
        refine v_iinc (pc := 72) hO (lv' := [(4, .inl (i + 1)), (3, .inl (b2i Hb)), (0, sref am), (1, .inl x), (2, .inl y)]) dX4_isHeld_72 rfl (by decide) rfl ?_
        refine v_goto (pc := 75) (tgt := 31) hO dX4_isHeld_75 (by decide) ?_
        refine v_pick (lv2 := [(0, sref am), (1, .inl x), (2, .inl y), (3, .inl (b2i Hb)), (4, .inl ((i + 1)))]) [2, 3, 4, 1, 0] rfl ?_
        exact ih (i + 1, Hb) ⟨(by omega), (by omega), (by rw [hg, anyI_s (show i < M 2 by omega), show hl1P M x y i = false from decide_eq_false (by omega)]; cases Hb <;> rfl)⟩ (by show (M 2 - (i + 1)).toNat < (M 2 - i).toNat; omega)
      · refine v_aload_n (pc := 54) hO dX4_isHeld_54 rfl ?_
        refine v_iload (pc := 55) hO dX4_isHeld_55 rfl ?_
        refine v_iconst (pc := 57) hO dX4_isHeld_57 ?_
        refine v_callV (pc := 58) (b := am) hO cp_X4 hr.ob (m_ofUnit hr i 1 (by omega) (by omega)) (lw_V q2234 q2236 qs36 q117 q2237) yo_X4_ofUnit rfl rfl rfl (by decide) (by decide) (k2 := 0) (n2 := 0) (by decide) (by decide) (by decide) (by decide) dX4_isHeld_58 (fun va hv hp hf1 => ?_)
        obtain ⟨rfl, rfl⟩ := hp
        refine v_iload_n (pc := 61) hO dX4_isHeld_61 rfl ?_
        refine v_icmp_ne (pc := 62) (tgt := 69) hO dX4_isHeld_62 (by decide) (by first | assumption | exact hr.zA 0 _ | exact hr.zA 8 _ | exact hr.zA 9 _ | exact hr.zS _ | exact hMz _ | exact hMz1 _ | exact zw_R _ | (unfold zR; omega)) (by first | assumption | exact hr.zA 0 _ | exact hr.zA 8 _ | exact hr.zA 9 _ | exact hr.zS _ | exact hMz _ | exact hMz1 _ | exact zw_R _ | (unfold zR; omega)) (fun c62 => ?_) (fun c62 => ?_)
        · refine v_iconst (pc := 69) hO dX4_isHeld_69 ?_
          refine v_ior0 (pc := 70) hO dX4_isHeld_70 ?_
          refine v_istore_n (pc := 71) hO (lv' := [(3, .inl (b2i Hb)), (0, sref am), (1, .inl x), (2, .inl y), (4, .inl i)]) dX4_isHeld_71 (by decide) rfl ?_
          refine v_iinc (pc := 72) hO (lv' := [(4, .inl (i + 1)), (3, .inl (b2i Hb)), (0, sref am), (1, .inl x), (2, .inl y)]) dX4_isHeld_72 rfl (by decide) rfl ?_
          refine v_goto (pc := 75) (tgt := 31) hO dX4_isHeld_75 (by decide) ?_
          refine v_pick (lv2 := [(0, sref am), (1, .inl x), (2, .inl y), (3, .inl (b2i Hb)), (4, .inl ((i + 1)))]) [2, 3, 4, 1, 0] rfl ?_
          exact ih (i + 1, Hb) ⟨(by omega), (by omega), (by rw [hg, anyI_s (show i < M 2 by omega), show hl1P M x y i = false from decide_eq_false (by omega)]; cases Hb <;> rfl)⟩ (by show (M 2 - (i + 1)).toNat < (M 2 - i).toNat; omega)
        · refine v_iconst (pc := 65) hO dX4_isHeld_65 ?_
          refine v_goto (pc := 66) (tgt := 70) hO dX4_isHeld_66 (by decide) ?_
          refine v_ior1 (pc := 70) hO dX4_isHeld_70 ?_
          refine v_istore_n (pc := 71) hO (lv' := [(3, .inl (b2i true)), (0, sref am), (1, .inl x), (2, .inl y), (4, .inl i)]) dX4_isHeld_71 (by decide) rfl ?_
          refine v_iinc (pc := 72) hO (lv' := [(4, .inl (i + 1)), (3, .inl (b2i true)), (0, sref am), (1, .inl x), (2, .inl y)]) dX4_isHeld_72 rfl (by decide) rfl ?_
          refine v_goto (pc := 75) (tgt := 31) hO dX4_isHeld_75 (by decide) ?_
          refine v_pick (lv2 := [(0, sref am), (1, .inl x), (2, .inl y), (3, .inl (b2i true)), (4, .inl ((i + 1)))]) [2, 3, 4, 1, 0] rfl ?_
          exact ih (i + 1, true) ⟨(by omega), (by omega), (by rw [hg, anyI_s (show i < M 2 by omega), show hl1P M x y i = true from decide_eq_true (by omega)]; cases Hb <;> rfl)⟩ (by show (M 2 - (i + 1)).toNat < (M 2 - i).toNat; omega)
  · refine v_aload_n (pc := 11) hO dX4_isHeld_11 rfl ?_
    refine v_getf (pc := 12) (v := sref (ad 0)) hO cp_X4 0 q2125 hr.ob (by decide) rfl dX4_isHeld_12 ?_
    refine v_bipush (pc := 15) hO dX4_isHeld_15 (by decide +kernel) ?_
    refine r_iald (pc := 17) (w := M 11) (L := 3934) hO hr 0 ri_0 rfl rfl (by omega) (by omega) dX4_isHeld_17 ?_
    refine v_iload_n (pc := 18) hO dX4_isHeld_18 rfl ?_
    refine v_icmp_ne (pc := 19) (tgt := 26) hO dX4_isHeld_19 (by decide) (by first | assumption | exact hr.zA 0 _ | exact hr.zA 8 _ | exact hr.zA 9 _ | exact hr.zS _ | exact hMz _ | exact hMz1 _ | exact zw_R _ | (unfold zR; omega)) (by first | assumption | exact hr.zA 0 _ | exact hr.zA 8 _ | exact hr.zA 9 _ | exact hr.zS _ | exact hMz _ | exact hMz1 _ | exact zw_R _ | (unfold zR; omega)) (fun c19 => ?_) (fun c19 => ?_)
    · refine v_iconst (pc := 26) hO dX4_isHeld_26 ?_
      refine v_istore_n (pc := 27) hO (lv' := [(3, .inl 0), (0, sref am), (1, .inl x), (2, .inl y)]) dX4_isHeld_27 (by decide) rfl ?_
      refine v_iconst (pc := 28) hO dX4_isHeld_28 ?_
      refine v_istore (pc := 29) hO (lv' := [(4, .inl 0), (3, .inl 0), (0, sref am), (1, .inl x), (2, .inl y)]) dX4_isHeld_29 (by decide) rfl ?_
      refine v_pick (lv2 := [(0, sref am), (1, .inl x), (2, .inl y), (3, .inl (b2i false)), (4, .inl 0)]) [2, 3, 4, 1, 0] rfl ?_
      refine v_loop (σ := Int × Bool) (fun (i, Hb) => 0 ≤ i ∧ i ≤ M 2 ∧ hldM M x y = (Hb || anyI (hl1P M x y) (M 2 - i).toNat i || anyI (hl2P M x y) (M 4 - 0).toNat 0)) (fun (i, Hb) => (M 2 - i).toNat) (fun (i, Hb) => h) (fun (i, Hb) => [(0, sref am), (1, .inl x), (2, .inl y), (3, .inl (b2i Hb)), (4, .inl i)]) (0, false) ⟨Int.le_refl _, (by omega), (by unfold hldM; rw [decide_eq_false (p := M 10 = x ∧ M 11 = y) (by omega)])⟩ ?_
      rintro ⟨i, Hb⟩ ⟨hi0, hi1, hg⟩ ih
      show VV X G A _ _ _ h _ _ 31 [(0, sref am), (1, .inl x), (2, .inl y), (3, .inl (b2i Hb)), (4, .inl i)] []
      refine v_iload (pc := 31) hO dX4_isHeld_31 rfl ?_
      refine v_aload_n (pc := 33) hO dX4_isHeld_33 rfl ?_
      refine v_getf (pc := 34) (v := sref (ad 0)) hO cp_X4 0 q2125 hr.ob (by decide) rfl dX4_isHeld_34 ?_
      refine v_iconst (pc := 37) hO dX4_isHeld_37 ?_
      refine r_iald (pc := 38) (w := M 2) (L := 3934) hO hr 0 ri_0 rfl rfl (by omega) (by omega) dX4_isHeld_38 ?_
      refine v_icmp_ge (pc := 39) (tgt := 78) hO dX4_isHeld_39 (by decide) (by first | assumption | exact hr.zA 0 _ | exact hr.zA 8 _ | exact hr.zA 9 _ | exact hr.zS _ | exact hMz _ | exact hMz1 _ | exact zw_R _ | (unfold zR; omega)) (by first | assumption | exact hr.zA 0 _ | exact hr.zA 8 _ | exact hr.zA 9 _ | exact hr.zS _ | exact hMz _ | exact hMz1 _ | exact zw_R _ | (unfold zR; omega)) (fun c39 => ?_) (fun c39 => ?_)
      · refine v_iconst (pc := 78) hO dX4_isHeld_78 ?_
        refine v_istore (pc := 79) hO (lv' := [(4, .inl 0), (0, sref am), (1, .inl x), (2, .inl y), (3, .inl (b2i Hb))]) dX4_isHeld_79 (by decide) rfl ?_
        refine v_pick (lv2 := [(0, sref am), (1, .inl x), (2, .inl y), (3, .inl (b2i Hb)), (4, .inl 0)]) [1, 2, 3, 4, 0] rfl ?_
        refine v_loop (σ := Int × Bool) (fun (i, Hb) => 0 ≤ i ∧ i ≤ M 4 ∧ hldM M x y = (Hb || anyI (hl2P M x y) (M 4 - i).toNat i)) (fun (i, Hb) => (M 4 - i).toNat) (fun (i, Hb) => h) (fun (i, Hb) => [(0, sref am), (1, .inl x), (2, .inl y), (3, .inl (b2i Hb)), (4, .inl i)]) (0, Hb) ⟨Int.le_refl _, (by omega), (by rw [hg, anyI_e (by omega), Bool.or_false])⟩ ?_
        rintro ⟨i, Hb⟩ ⟨hi0, hi1, hg⟩ ih
        show VV X G A _ _ _ h _ _ 81 [(0, sref am), (1, .inl x), (2, .inl y), (3, .inl (b2i Hb)), (4, .inl i)] []
        refine v_iload (pc := 81) hO dX4_isHeld_81 rfl ?_
        refine v_aload_n (pc := 83) hO dX4_isHeld_83 rfl ?_
        refine v_getf (pc := 84) (v := sref (ad 0)) hO cp_X4 0 q2125 hr.ob (by decide) rfl dX4_isHeld_84 ?_
        refine v_iconst (pc := 87) hO dX4_isHeld_87 ?_
        refine r_iald (pc := 88) (w := M 4) (L := 3934) hO hr 0 ri_0 rfl rfl (by omega) (by omega) dX4_isHeld_88 ?_
        refine v_icmp_ge (pc := 89) (tgt := 140) hO dX4_isHeld_89 (by decide) (by first | assumption | exact hr.zA 0 _ | exact hr.zA 8 _ | exact hr.zA 9 _ | exact hr.zS _ | exact hMz _ | exact hMz1 _ | exact zw_R _ | (unfold zR; omega)) (by first | assumption | exact hr.zA 0 _ | exact hr.zA 8 _ | exact hr.zA 9 _ | exact hr.zS _ | exact hMz _ | exact hMz1 _ | exact zw_R _ | (unfold zR; omega)) (fun c89 => ?_) (fun c89 => ?_)
        · refine v_iload_n (pc := 140) hO dX4_isHeld_140 rfl ?_
          exact v_zret hO dX4_isHeld_141 rfl (nar_z (b2i_c _)) (Nat.le_of_ble_eq_true rfl) (Nat.le_of_ble_eq_true rfl) ⟨congrArg (fun z => some (Sum.inl z)) (by rw [Bool.decide_eq_true, hg, anyI_e (by omega), Bool.or_false]), rfl⟩
        · refine v_iload_n (pc := 92) hO dX4_isHeld_92 rfl ?_
          refine v_aload_n (pc := 93) hO dX4_isHeld_93 rfl ?_
          refine v_iload (pc := 94) hO dX4_isHeld_94 rfl ?_
          refine v_iconst (pc := 96) hO dX4_isHeld_96 ?_
          refine v_callV (pc := 97) (b := am) hO cp_X4 hr.ob (m_ofOrder hr i 3 (by omega) (by omega)) (lw_V q2245 q2247 qs38 q117 q2248) yo_X4_ofOrder rfl rfl rfl (by decide) (by decide) (k2 := 0) (n2 := 0) (by decide) (by decide) (by decide) (by decide) dX4_isHeld_97 (fun va hv hp hf1 => ?_)
          obtain ⟨rfl, rfl⟩ := hp
          refine v_if_ne (pc := 100) (tgt := 131) hO dX4_isHeld_100 (by decide) (by first | assumption | exact hr.zA 0 _ | exact hr.zA 8 _ | exact hr.zA 9 _ | exact hr.zS _ | exact hMz _ | exact hMz1 _ | exact zw_R _ | (unfold zR; omega)) (fun c100 => ?_) (fun c100 => ?_)
          · refine v_iconst (pc := 131) hO dX4_isHeld_131 ?_
            refine v_ior0 (pc := 132) hO dX4_isHeld_132 ?_
            refine v_istore_n (pc := 133) hO (lv' := [(3, .inl (b2i Hb)), (0, sref am), (1, .inl x), (2, .inl y), (4, .inl i)]) dX4_isHeld_133 (by decide) rfl ?_
            refine v_iinc (pc := 134) hO (lv' := [(4, .inl (i + 1)), (3, .inl (b2i Hb)), (0, sref am), (1, .inl x), (2, .inl y)]) dX4_isHeld_134 rfl (by decide) rfl ?_
            refine v_goto (pc := 137) (tgt := 81) hO dX4_isHeld_137 (by decide) ?_
            refine v_pick (lv2 := [(0, sref am), (1, .inl x), (2, .inl y), (3, .inl (b2i Hb)), (4, .inl ((i + 1)))]) [2, 3, 4, 1, 0] rfl ?_
            exact ih (i + 1, Hb) ⟨(by omega), (by omega), (by rw [hg, anyI_s (show i < M 4 by omega), show hl2P M x y i = false from decide_eq_false (by omega)]; cases Hb <;> rfl)⟩ (by show (M 4 - (i + 1)).toNat < (M 4 - i).toNat; omega)
          · refine v_aload_n (pc := 103) hO dX4_isHeld_103 rfl ?_
            refine v_iload (pc := 104) hO dX4_isHeld_104 rfl ?_
            refine v_bipush (pc := 106) hO dX4_isHeld_106 (by decide +kernel) ?_
            refine v_callV (pc := 108) (b := am) hO cp_X4 hr.ob (m_ofOrder hr i 7 (by omega) (by omega)) (lw_V q2245 q2247 qs38 q117 q2248) yo_X4_ofOrder rfl rfl rfl (by decide) (by decide) (k2 := 0) (n2 := 0) (by decide) (by decide) (by decide) (by decide) dX4_isHeld_108 (fun va hv hp hf1 => ?_)
            obtain ⟨rfl, rfl⟩ := hp
            refine v_iload_n (pc := 111) hO dX4_isHeld_111 rfl ?_
            refine v_icmp_ne (pc := 112) (tgt := 131) hO dX4_isHeld_112 (by decide) (by first | assumption | exact hr.zA 0 _ | exact hr.zA 8 _ | exact hr.zA 9 _ | exact hr.zS _ | exact hMz _ | exact hMz1 _ | exact zw_R _ | (unfold zR; omega)) (by first | assumption | exact hr.zA 0 _ | exact hr.zA 8 _ | exact hr.zA 9 _ | exact hr.zS _ | exact hMz _ | exact hMz1 _ | exact zw_R _ | (unfold zR; omega)) (fun c112 => ?_) (fun c112 => ?_)
            · refine v_iconst (pc := 131) hO dX4_isHeld_131 ?_
              refine v_ior0 (pc := 132) hO dX4_isHeld_132 ?_
              refine v_istore_n (pc := 133) hO (lv' := [(3, .inl (b2i Hb)), (0, sref am), (1, .inl x), (2, .inl y), (4, .inl i)]) dX4_isHeld_133 (by decide) rfl ?_
              refine v_iinc (pc := 134) hO (lv' := [(4, .inl (i + 1)), (3, .inl (b2i Hb)), (0, sref am), (1, .inl x), (2, .inl y)]) dX4_isHeld_134 rfl (by decide) rfl ?_
              refine v_goto (pc := 137) (tgt := 81) hO dX4_isHeld_137 (by decide) ?_
              refine v_pick (lv2 := [(0, sref am), (1, .inl x), (2, .inl y), (3, .inl (b2i Hb)), (4, .inl ((i + 1)))]) [2, 3, 4, 1, 0] rfl ?_
              exact ih (i + 1, Hb) ⟨(by omega), (by omega), (by rw [hg, anyI_s (show i < M 4 by omega), show hl2P M x y i = false from decide_eq_false (by omega)]; cases Hb <;> rfl)⟩ (by show (M 4 - (i + 1)).toNat < (M 4 - i).toNat; omega)
            · refine v_aload_n (pc := 115) hO dX4_isHeld_115 rfl ?_
              refine v_iload (pc := 116) hO dX4_isHeld_116 rfl ?_
              refine v_bipush (pc := 118) hO dX4_isHeld_118 (by decide +kernel) ?_
              refine v_callV (pc := 120) (b := am) hO cp_X4 hr.ob (m_ofOrder hr i 8 (by omega) (by omega)) (lw_V q2245 q2247 qs38 q117 q2248) yo_X4_ofOrder rfl rfl rfl (by decide) (by decide) (k2 := 0) (n2 := 0) (by decide) (by decide) (by decide) (by decide) dX4_isHeld_120 (fun va hv hp hf1 => ?_)
              obtain ⟨rfl, rfl⟩ := hp
              refine v_iload_n (pc := 123) hO dX4_isHeld_123 rfl ?_
              refine v_icmp_ne (pc := 124) (tgt := 131) hO dX4_isHeld_124 (by decide) (by first | assumption | exact hr.zA 0 _ | exact hr.zA 8 _ | exact hr.zA 9 _ | exact hr.zS _ | exact hMz _ | exact hMz1 _ | exact zw_R _ | (unfold zR; omega)) (by first | assumption | exact hr.zA 0 _ | exact hr.zA 8 _ | exact hr.zA 9 _ | exact hr.zS _ | exact hMz _ | exact hMz1 _ | exact zw_R _ | (unfold zR; omega)) (fun c124 => ?_) (fun c124 => ?_)
              · refine v_iconst (pc := 131) hO dX4_isHeld_131 ?_
                refine v_ior0 (pc := 132) hO dX4_isHeld_132 ?_
                refine v_istore_n (pc := 133) hO (lv' := [(3, .inl (b2i Hb)), (0, sref am), (1, .inl x), (2, .inl y), (4, .inl i)]) dX4_isHeld_133 (by decide) rfl ?_
                refine v_iinc (pc := 134) hO (lv' := [(4, .inl (i + 1)), (3, .inl (b2i Hb)), (0, sref am), (1, .inl x), (2, .inl y)]) dX4_isHeld_134 rfl (by decide) rfl ?_
                refine v_goto (pc := 137) (tgt := 81) hO dX4_isHeld_137 (by decide) ?_
                refine v_pick (lv2 := [(0, sref am), (1, .inl x), (2, .inl y), (3, .inl (b2i Hb)), (4, .inl ((i + 1)))]) [2, 3, 4, 1, 0] rfl ?_
                exact ih (i + 1, Hb) ⟨(by omega), (by omega), (by rw [hg, anyI_s (show i < M 4 by omega), show hl2P M x y i = false from decide_eq_false (by omega)]; cases Hb <;> rfl)⟩ (by show (M 4 - (i + 1)).toNat < (M 4 - i).toNat; omega)
              · refine v_iconst (pc := 127) hO dX4_isHeld_127 ?_
                refine v_goto (pc := 128) (tgt := 132) hO dX4_isHeld_128 (by decide) ?_
                refine v_ior1 (pc := 132) hO dX4_isHeld_132 ?_
                refine v_istore_n (pc := 133) hO (lv' := [(3, .inl (b2i true)), (0, sref am), (1, .inl x), (2, .inl y), (4, .inl i)]) dX4_isHeld_133 (by decide) rfl ?_
                refine v_iinc (pc := 134) hO (lv' := [(4, .inl (i + 1)), (3, .inl (b2i true)), (0, sref am), (1, .inl x), (2, .inl y)]) dX4_isHeld_134 rfl (by decide) rfl ?_
                refine v_goto (pc := 137) (tgt := 81) hO dX4_isHeld_137 (by decide) ?_
                refine v_pick (lv2 := [(0, sref am), (1, .inl x), (2, .inl y), (3, .inl (b2i true)), (4, .inl ((i + 1)))]) [2, 3, 4, 1, 0] rfl ?_
                exact ih (i + 1, true) ⟨(by omega), (by omega), (by rw [hg, anyI_s (show i < M 4 by omega), show hl2P M x y i = true from decide_eq_true (by omega)]; cases Hb <;> rfl)⟩ (by show (M 4 - (i + 1)).toNat < (M 4 - i).toNat; omega)
      · refine v_iload_n (pc := 42) hO dX4_isHeld_42 rfl ?_
        refine v_aload_n (pc := 43) hO dX4_isHeld_43 rfl ?_
        refine v_iload (pc := 44) hO dX4_isHeld_44 rfl ?_
        refine v_iconst (pc := 46) hO dX4_isHeld_46 ?_
        refine v_callV (pc := 47) (b := am) hO cp_X4 hr.ob (m_ofUnit hr i 0 (by omega) (by omega)) (lw_V q2234 q2236 qs36 q117 q2237) yo_X4_ofUnit rfl rfl rfl (by decide) (by decide) (k2 := 0) (n2 := 0) (by decide) (by decide) (by decide) (by decide) dX4_isHeld_47 (fun va hv hp hf1 => ?_)
        obtain ⟨rfl, rfl⟩ := hp
        refine v_iload_n (pc := 50) hO dX4_isHeld_50 rfl ?_
        refine v_icmp_ne (pc := 51) (tgt := 69) hO dX4_isHeld_51 (by decide) (by first | assumption | exact hr.zA 0 _ | exact hr.zA 8 _ | exact hr.zA 9 _ | exact hr.zS _ | exact hMz _ | exact hMz1 _ | exact zw_R _ | (unfold zR; omega)) (by first | assumption | exact hr.zA 0 _ | exact hr.zA 8 _ | exact hr.zA 9 _ | exact hr.zS _ | exact hMz _ | exact hMz1 _ | exact zw_R _ | (unfold zR; omega)) (fun c51 => ?_) (fun c51 => ?_)
        · refine v_iconst (pc := 69) hO dX4_isHeld_69 ?_
          refine v_ior0 (pc := 70) hO dX4_isHeld_70 ?_
          refine v_istore_n (pc := 71) hO (lv' := [(3, .inl (b2i Hb)), (0, sref am), (1, .inl x), (2, .inl y), (4, .inl i)]) dX4_isHeld_71 (by decide) rfl ?_
          refine v_iinc (pc := 72) hO (lv' := [(4, .inl (i + 1)), (3, .inl (b2i Hb)), (0, sref am), (1, .inl x), (2, .inl y)]) dX4_isHeld_72 rfl (by decide) rfl ?_
          refine v_goto (pc := 75) (tgt := 31) hO dX4_isHeld_75 (by decide) ?_
          refine v_pick (lv2 := [(0, sref am), (1, .inl x), (2, .inl y), (3, .inl (b2i Hb)), (4, .inl ((i + 1)))]) [2, 3, 4, 1, 0] rfl ?_
          exact ih (i + 1, Hb) ⟨(by omega), (by omega), (by rw [hg, anyI_s (show i < M 2 by omega), show hl1P M x y i = false from decide_eq_false (by omega)]; cases Hb <;> rfl)⟩ (by show (M 2 - (i + 1)).toNat < (M 2 - i).toNat; omega)
        · refine v_aload_n (pc := 54) hO dX4_isHeld_54 rfl ?_
          refine v_iload (pc := 55) hO dX4_isHeld_55 rfl ?_
          refine v_iconst (pc := 57) hO dX4_isHeld_57 ?_
          refine v_callV (pc := 58) (b := am) hO cp_X4 hr.ob (m_ofUnit hr i 1 (by omega) (by omega)) (lw_V q2234 q2236 qs36 q117 q2237) yo_X4_ofUnit rfl rfl rfl (by decide) (by decide) (k2 := 0) (n2 := 0) (by decide) (by decide) (by decide) (by decide) dX4_isHeld_58 (fun va hv hp hf1 => ?_)
          obtain ⟨rfl, rfl⟩ := hp
          refine v_iload_n (pc := 61) hO dX4_isHeld_61 rfl ?_
          refine v_icmp_ne (pc := 62) (tgt := 69) hO dX4_isHeld_62 (by decide) (by first | assumption | exact hr.zA 0 _ | exact hr.zA 8 _ | exact hr.zA 9 _ | exact hr.zS _ | exact hMz _ | exact hMz1 _ | exact zw_R _ | (unfold zR; omega)) (by first | assumption | exact hr.zA 0 _ | exact hr.zA 8 _ | exact hr.zA 9 _ | exact hr.zS _ | exact hMz _ | exact hMz1 _ | exact zw_R _ | (unfold zR; omega)) (fun c62 => ?_) (fun c62 => ?_)
          · refine v_iconst (pc := 69) hO dX4_isHeld_69 ?_
            refine v_ior0 (pc := 70) hO dX4_isHeld_70 ?_
            refine v_istore_n (pc := 71) hO (lv' := [(3, .inl (b2i Hb)), (0, sref am), (1, .inl x), (2, .inl y), (4, .inl i)]) dX4_isHeld_71 (by decide) rfl ?_
            refine v_iinc (pc := 72) hO (lv' := [(4, .inl (i + 1)), (3, .inl (b2i Hb)), (0, sref am), (1, .inl x), (2, .inl y)]) dX4_isHeld_72 rfl (by decide) rfl ?_
            refine v_goto (pc := 75) (tgt := 31) hO dX4_isHeld_75 (by decide) ?_
            refine v_pick (lv2 := [(0, sref am), (1, .inl x), (2, .inl y), (3, .inl (b2i Hb)), (4, .inl ((i + 1)))]) [2, 3, 4, 1, 0] rfl ?_
            exact ih (i + 1, Hb) ⟨(by omega), (by omega), (by rw [hg, anyI_s (show i < M 2 by omega), show hl1P M x y i = false from decide_eq_false (by omega)]; cases Hb <;> rfl)⟩ (by show (M 2 - (i + 1)).toNat < (M 2 - i).toNat; omega)
          · refine v_iconst (pc := 65) hO dX4_isHeld_65 ?_
            refine v_goto (pc := 66) (tgt := 70) hO dX4_isHeld_66 (by decide) ?_
            refine v_ior1 (pc := 70) hO dX4_isHeld_70 ?_
            refine v_istore_n (pc := 71) hO (lv' := [(3, .inl (b2i true)), (0, sref am), (1, .inl x), (2, .inl y), (4, .inl i)]) dX4_isHeld_71 (by decide) rfl ?_
            refine v_iinc (pc := 72) hO (lv' := [(4, .inl (i + 1)), (3, .inl (b2i true)), (0, sref am), (1, .inl x), (2, .inl y)]) dX4_isHeld_72 rfl (by decide) rfl ?_
            refine v_goto (pc := 75) (tgt := 31) hO dX4_isHeld_75 (by decide) ?_
            refine v_pick (lv2 := [(0, sref am), (1, .inl x), (2, .inl y), (3, .inl (b2i true)), (4, .inl ((i + 1)))]) [2, 3, 4, 1, 0] rfl ?_
            exact ih (i + 1, true) ⟨(by omega), (by omega), (by rw [hg, anyI_s (show i < M 2 by omega), show hl1P M x y i = true from decide_eq_true (by omega)]; cases Hb <;> rfl)⟩ (by show (M 2 - (i + 1)).toNat < (M 2 - i).toNat; omega)
    · refine v_iconst (pc := 22) hO dX4_isHeld_22 ?_
      refine v_goto (pc := 23) (tgt := 27) hO dX4_isHeld_23 (by decide) ?_
      refine v_istore_n (pc := 27) hO (lv' := [(3, .inl 1), (0, sref am), (1, .inl x), (2, .inl y)]) dX4_isHeld_27 (by decide) rfl ?_
      refine v_iconst (pc := 28) hO dX4_isHeld_28 ?_
      refine v_istore (pc := 29) hO (lv' := [(4, .inl 0), (3, .inl 1), (0, sref am), (1, .inl x), (2, .inl y)]) dX4_isHeld_29 (by decide) rfl ?_
      refine v_pick (lv2 := [(0, sref am), (1, .inl x), (2, .inl y), (3, .inl (b2i true)), (4, .inl 0)]) [2, 3, 4, 1, 0] rfl ?_
      refine v_loop (σ := Int × Bool) (fun (i, Hb) => 0 ≤ i ∧ i ≤ M 2 ∧ hldM M x y = (Hb || anyI (hl1P M x y) (M 2 - i).toNat i || anyI (hl2P M x y) (M 4 - 0).toNat 0)) (fun (i, Hb) => (M 2 - i).toNat) (fun (i, Hb) => h) (fun (i, Hb) => [(0, sref am), (1, .inl x), (2, .inl y), (3, .inl (b2i Hb)), (4, .inl i)]) (0, true) ⟨Int.le_refl _, (by omega), (by unfold hldM; rw [decide_eq_true (p := M 10 = x ∧ M 11 = y) (by omega)])⟩ ?_
      rintro ⟨i, Hb⟩ ⟨hi0, hi1, hg⟩ ih
      show VV X G A _ _ _ h _ _ 31 [(0, sref am), (1, .inl x), (2, .inl y), (3, .inl (b2i Hb)), (4, .inl i)] []
      refine v_iload (pc := 31) hO dX4_isHeld_31 rfl ?_
      refine v_aload_n (pc := 33) hO dX4_isHeld_33 rfl ?_
      refine v_getf (pc := 34) (v := sref (ad 0)) hO cp_X4 0 q2125 hr.ob (by decide) rfl dX4_isHeld_34 ?_
      refine v_iconst (pc := 37) hO dX4_isHeld_37 ?_
      refine r_iald (pc := 38) (w := M 2) (L := 3934) hO hr 0 ri_0 rfl rfl (by omega) (by omega) dX4_isHeld_38 ?_
      refine v_icmp_ge (pc := 39) (tgt := 78) hO dX4_isHeld_39 (by decide) (by first | assumption | exact hr.zA 0 _ | exact hr.zA 8 _ | exact hr.zA 9 _ | exact hr.zS _ | exact hMz _ | exact hMz1 _ | exact zw_R _ | (unfold zR; omega)) (by first | assumption | exact hr.zA 0 _ | exact hr.zA 8 _ | exact hr.zA 9 _ | exact hr.zS _ | exact hMz _ | exact hMz1 _ | exact zw_R _ | (unfold zR; omega)) (fun c39 => ?_) (fun c39 => ?_)
      · refine v_iconst (pc := 78) hO dX4_isHeld_78 ?_
        refine v_istore (pc := 79) hO (lv' := [(4, .inl 0), (0, sref am), (1, .inl x), (2, .inl y), (3, .inl (b2i Hb))]) dX4_isHeld_79 (by decide) rfl ?_
        refine v_pick (lv2 := [(0, sref am), (1, .inl x), (2, .inl y), (3, .inl (b2i Hb)), (4, .inl 0)]) [1, 2, 3, 4, 0] rfl ?_
        refine v_loop (σ := Int × Bool) (fun (i, Hb) => 0 ≤ i ∧ i ≤ M 4 ∧ hldM M x y = (Hb || anyI (hl2P M x y) (M 4 - i).toNat i)) (fun (i, Hb) => (M 4 - i).toNat) (fun (i, Hb) => h) (fun (i, Hb) => [(0, sref am), (1, .inl x), (2, .inl y), (3, .inl (b2i Hb)), (4, .inl i)]) (0, Hb) ⟨Int.le_refl _, (by omega), (by rw [hg, anyI_e (by omega), Bool.or_false])⟩ ?_
        rintro ⟨i, Hb⟩ ⟨hi0, hi1, hg⟩ ih
        show VV X G A _ _ _ h _ _ 81 [(0, sref am), (1, .inl x), (2, .inl y), (3, .inl (b2i Hb)), (4, .inl i)] []
        refine v_iload (pc := 81) hO dX4_isHeld_81 rfl ?_
        refine v_aload_n (pc := 83) hO dX4_isHeld_83 rfl ?_
        refine v_getf (pc := 84) (v := sref (ad 0)) hO cp_X4 0 q2125 hr.ob (by decide) rfl dX4_isHeld_84 ?_
        refine v_iconst (pc := 87) hO dX4_isHeld_87 ?_
        refine r_iald (pc := 88) (w := M 4) (L := 3934) hO hr 0 ri_0 rfl rfl (by omega) (by omega) dX4_isHeld_88 ?_
        refine v_icmp_ge (pc := 89) (tgt := 140) hO dX4_isHeld_89 (by decide) (by first | assumption | exact hr.zA 0 _ | exact hr.zA 8 _ | exact hr.zA 9 _ | exact hr.zS _ | exact hMz _ | exact hMz1 _ | exact zw_R _ | (unfold zR; omega)) (by first | assumption | exact hr.zA 0 _ | exact hr.zA 8 _ | exact hr.zA 9 _ | exact hr.zS _ | exact hMz _ | exact hMz1 _ | exact zw_R _ | (unfold zR; omega)) (fun c89 => ?_) (fun c89 => ?_)
        · refine v_iload_n (pc := 140) hO dX4_isHeld_140 rfl ?_
          exact v_zret hO dX4_isHeld_141 rfl (nar_z (b2i_c _)) (Nat.le_of_ble_eq_true rfl) (Nat.le_of_ble_eq_true rfl) ⟨congrArg (fun z => some (Sum.inl z)) (by rw [Bool.decide_eq_true, hg, anyI_e (by omega), Bool.or_false]), rfl⟩
        · refine v_iload_n (pc := 92) hO dX4_isHeld_92 rfl ?_
          refine v_aload_n (pc := 93) hO dX4_isHeld_93 rfl ?_
          refine v_iload (pc := 94) hO dX4_isHeld_94 rfl ?_
          refine v_iconst (pc := 96) hO dX4_isHeld_96 ?_
          refine v_callV (pc := 97) (b := am) hO cp_X4 hr.ob (m_ofOrder hr i 3 (by omega) (by omega)) (lw_V q2245 q2247 qs38 q117 q2248) yo_X4_ofOrder rfl rfl rfl (by decide) (by decide) (k2 := 0) (n2 := 0) (by decide) (by decide) (by decide) (by decide) dX4_isHeld_97 (fun va hv hp hf1 => ?_)
          obtain ⟨rfl, rfl⟩ := hp
          refine v_if_ne (pc := 100) (tgt := 131) hO dX4_isHeld_100 (by decide) (by first | assumption | exact hr.zA 0 _ | exact hr.zA 8 _ | exact hr.zA 9 _ | exact hr.zS _ | exact hMz _ | exact hMz1 _ | exact zw_R _ | (unfold zR; omega)) (fun c100 => ?_) (fun c100 => ?_)
          · refine v_iconst (pc := 131) hO dX4_isHeld_131 ?_
            refine v_ior0 (pc := 132) hO dX4_isHeld_132 ?_
            refine v_istore_n (pc := 133) hO (lv' := [(3, .inl (b2i Hb)), (0, sref am), (1, .inl x), (2, .inl y), (4, .inl i)]) dX4_isHeld_133 (by decide) rfl ?_
            refine v_iinc (pc := 134) hO (lv' := [(4, .inl (i + 1)), (3, .inl (b2i Hb)), (0, sref am), (1, .inl x), (2, .inl y)]) dX4_isHeld_134 rfl (by decide) rfl ?_
            refine v_goto (pc := 137) (tgt := 81) hO dX4_isHeld_137 (by decide) ?_
            refine v_pick (lv2 := [(0, sref am), (1, .inl x), (2, .inl y), (3, .inl (b2i Hb)), (4, .inl ((i + 1)))]) [2, 3, 4, 1, 0] rfl ?_
            exact ih (i + 1, Hb) ⟨(by omega), (by omega), (by rw [hg, anyI_s (show i < M 4 by omega), show hl2P M x y i = false from decide_eq_false (by omega)]; cases Hb <;> rfl)⟩ (by show (M 4 - (i + 1)).toNat < (M 4 - i).toNat; omega)
          · refine v_aload_n (pc := 103) hO dX4_isHeld_103 rfl ?_
            refine v_iload (pc := 104) hO dX4_isHeld_104 rfl ?_
            refine v_bipush (pc := 106) hO dX4_isHeld_106 (by decide +kernel) ?_
            refine v_callV (pc := 108) (b := am) hO cp_X4 hr.ob (m_ofOrder hr i 7 (by omega) (by omega)) (lw_V q2245 q2247 qs38 q117 q2248) yo_X4_ofOrder rfl rfl rfl (by decide) (by decide) (k2 := 0) (n2 := 0) (by decide) (by decide) (by decide) (by decide) dX4_isHeld_108 (fun va hv hp hf1 => ?_)
            obtain ⟨rfl, rfl⟩ := hp
            refine v_iload_n (pc := 111) hO dX4_isHeld_111 rfl ?_
            refine v_icmp_ne (pc := 112) (tgt := 131) hO dX4_isHeld_112 (by decide) (by first | assumption | exact hr.zA 0 _ | exact hr.zA 8 _ | exact hr.zA 9 _ | exact hr.zS _ | exact hMz _ | exact hMz1 _ | exact zw_R _ | (unfold zR; omega)) (by first | assumption | exact hr.zA 0 _ | exact hr.zA 8 _ | exact hr.zA 9 _ | exact hr.zS _ | exact hMz _ | exact hMz1 _ | exact zw_R _ | (unfold zR; omega)) (fun c112 => ?_) (fun c112 => ?_)
            · refine v_iconst (pc := 131) hO dX4_isHeld_131 ?_
              refine v_ior0 (pc := 132) hO dX4_isHeld_132 ?_
              refine v_istore_n (pc := 133) hO (lv' := [(3, .inl (b2i Hb)), (0, sref am), (1, .inl x), (2, .inl y), (4, .inl i)]) dX4_isHeld_133 (by decide) rfl ?_
              refine v_iinc (pc := 134) hO (lv' := [(4, .inl (i + 1)), (3, .inl (b2i Hb)), (0, sref am), (1, .inl x), (2, .inl y)]) dX4_isHeld_134 rfl (by decide) rfl ?_
              refine v_goto (pc := 137) (tgt := 81) hO dX4_isHeld_137 (by decide) ?_
              refine v_pick (lv2 := [(0, sref am), (1, .inl x), (2, .inl y), (3, .inl (b2i Hb)), (4, .inl ((i + 1)))]) [2, 3, 4, 1, 0] rfl ?_
              exact ih (i + 1, Hb) ⟨(by omega), (by omega), (by rw [hg, anyI_s (show i < M 4 by omega), show hl2P M x y i = false from decide_eq_false (by omega)]; cases Hb <;> rfl)⟩ (by show (M 4 - (i + 1)).toNat < (M 4 - i).toNat; omega)
            · refine v_aload_n (pc := 115) hO dX4_isHeld_115 rfl ?_
              refine v_iload (pc := 116) hO dX4_isHeld_116 rfl ?_
              refine v_bipush (pc := 118) hO dX4_isHeld_118 (by decide +kernel) ?_
              refine v_callV (pc := 120) (b := am) hO cp_X4 hr.ob (m_ofOrder hr i 8 (by omega) (by omega)) (lw_V q2245 q2247 qs38 q117 q2248) yo_X4_ofOrder rfl rfl rfl (by decide) (by decide) (k2 := 0) (n2 := 0) (by decide) (by decide) (by decide) (by decide) dX4_isHeld_120 (fun va hv hp hf1 => ?_)
              obtain ⟨rfl, rfl⟩ := hp
              refine v_iload_n (pc := 123) hO dX4_isHeld_123 rfl ?_
              refine v_icmp_ne (pc := 124) (tgt := 131) hO dX4_isHeld_124 (by decide) (by first | assumption | exact hr.zA 0 _ | exact hr.zA 8 _ | exact hr.zA 9 _ | exact hr.zS _ | exact hMz _ | exact hMz1 _ | exact zw_R _ | (unfold zR; omega)) (by first | assumption | exact hr.zA 0 _ | exact hr.zA 8 _ | exact hr.zA 9 _ | exact hr.zS _ | exact hMz _ | exact hMz1 _ | exact zw_R _ | (unfold zR; omega)) (fun c124 => ?_) (fun c124 => ?_)
              · refine v_iconst (pc := 131) hO dX4_isHeld_131 ?_
                refine v_ior0 (pc := 132) hO dX4_isHeld_132 ?_
                refine v_istore_n (pc := 133) hO (lv' := [(3, .inl (b2i Hb)), (0, sref am), (1, .inl x), (2, .inl y), (4, .inl i)]) dX4_isHeld_133 (by decide) rfl ?_
                refine v_iinc (pc := 134) hO (lv' := [(4, .inl (i + 1)), (3, .inl (b2i Hb)), (0, sref am), (1, .inl x), (2, .inl y)]) dX4_isHeld_134 rfl (by decide) rfl ?_
                refine v_goto (pc := 137) (tgt := 81) hO dX4_isHeld_137 (by decide) ?_
                refine v_pick (lv2 := [(0, sref am), (1, .inl x), (2, .inl y), (3, .inl (b2i Hb)), (4, .inl ((i + 1)))]) [2, 3, 4, 1, 0] rfl ?_
                exact ih (i + 1, Hb) ⟨(by omega), (by omega), (by rw [hg, anyI_s (show i < M 4 by omega), show hl2P M x y i = false from decide_eq_false (by omega)]; cases Hb <;> rfl)⟩ (by show (M 4 - (i + 1)).toNat < (M 4 - i).toNat; omega)
              · refine v_iconst (pc := 127) hO dX4_isHeld_127 ?_
                refine v_goto (pc := 128) (tgt := 132) hO dX4_isHeld_128 (by decide) ?_
                refine v_ior1 (pc := 132) hO dX4_isHeld_132 ?_
                refine v_istore_n (pc := 133) hO (lv' := [(3, .inl (b2i true)), (0, sref am), (1, .inl x), (2, .inl y), (4, .inl i)]) dX4_isHeld_133 (by decide) rfl ?_
                refine v_iinc (pc := 134) hO (lv' := [(4, .inl (i + 1)), (3, .inl (b2i true)), (0, sref am), (1, .inl x), (2, .inl y)]) dX4_isHeld_134 rfl (by decide) rfl ?_
                refine v_goto (pc := 137) (tgt := 81) hO dX4_isHeld_137 (by decide) ?_
                refine v_pick (lv2 := [(0, sref am), (1, .inl x), (2, .inl y), (3, .inl (b2i true)), (4, .inl ((i + 1)))]) [2, 3, 4, 1, 0] rfl ?_
                exact ih (i + 1, true) ⟨(by omega), (by omega), (by rw [hg, anyI_s (show i < M 4 by omega), show hl2P M x y i = true from decide_eq_true (by omega)]; cases Hb <;> rfl)⟩ (by show (M 4 - (i + 1)).toNat < (M 4 - i).toNat; omega)
      · refine v_iload_n (pc := 42) hO dX4_isHeld_42 rfl ?_
        refine v_aload_n (pc := 43) hO dX4_isHeld_43 rfl ?_
        refine v_iload (pc := 44) hO dX4_isHeld_44 rfl ?_
        refine v_iconst (pc := 46) hO dX4_isHeld_46 ?_
        refine v_callV (pc := 47) (b := am) hO cp_X4 hr.ob (m_ofUnit hr i 0 (by omega) (by omega)) (lw_V q2234 q2236 qs36 q117 q2237) yo_X4_ofUnit rfl rfl rfl (by decide) (by decide) (k2 := 0) (n2 := 0) (by decide) (by decide) (by decide) (by decide) dX4_isHeld_47 (fun va hv hp hf1 => ?_)
        obtain ⟨rfl, rfl⟩ := hp
        refine v_iload_n (pc := 50) hO dX4_isHeld_50 rfl ?_
        refine v_icmp_ne (pc := 51) (tgt := 69) hO dX4_isHeld_51 (by decide) (by first | assumption | exact hr.zA 0 _ | exact hr.zA 8 _ | exact hr.zA 9 _ | exact hr.zS _ | exact hMz _ | exact hMz1 _ | exact zw_R _ | (unfold zR; omega)) (by first | assumption | exact hr.zA 0 _ | exact hr.zA 8 _ | exact hr.zA 9 _ | exact hr.zS _ | exact hMz _ | exact hMz1 _ | exact zw_R _ | (unfold zR; omega)) (fun c51 => ?_) (fun c51 => ?_)
        · refine v_iconst (pc := 69) hO dX4_isHeld_69 ?_
          refine v_ior0 (pc := 70) hO dX4_isHeld_70 ?_
          refine v_istore_n (pc := 71) hO (lv' := [(3, .inl (b2i Hb)), (0, sref am), (1, .inl x), (2, .inl y), (4, .inl i)]) dX4_isHeld_71 (by decide) rfl ?_
          refine v_iinc (pc := 72) hO (lv' := [(4, .inl (i + 1)), (3, .inl (b2i Hb)), (0, sref am), (1, .inl x), (2, .inl y)]) dX4_isHeld_72 rfl (by decide) rfl ?_
          refine v_goto (pc := 75) (tgt := 31) hO dX4_isHeld_75 (by decide) ?_
          refine v_pick (lv2 := [(0, sref am), (1, .inl x), (2, .inl y), (3, .inl (b2i Hb)), (4, .inl ((i + 1)))]) [2, 3, 4, 1, 0] rfl ?_
          exact ih (i + 1, Hb) ⟨(by omega), (by omega), (by rw [hg, anyI_s (show i < M 2 by omega), show hl1P M x y i = false from decide_eq_false (by omega)]; cases Hb <;> rfl)⟩ (by show (M 2 - (i + 1)).toNat < (M 2 - i).toNat; omega)
        · refine v_aload_n (pc := 54) hO dX4_isHeld_54 rfl ?_
          refine v_iload (pc := 55) hO dX4_isHeld_55 rfl ?_
          refine v_iconst (pc := 57) hO dX4_isHeld_57 ?_
          refine v_callV (pc := 58) (b := am) hO cp_X4 hr.ob (m_ofUnit hr i 1 (by omega) (by omega)) (lw_V q2234 q2236 qs36 q117 q2237) yo_X4_ofUnit rfl rfl rfl (by decide) (by decide) (k2 := 0) (n2 := 0) (by decide) (by decide) (by decide) (by decide) dX4_isHeld_58 (fun va hv hp hf1 => ?_)
          obtain ⟨rfl, rfl⟩ := hp
          refine v_iload_n (pc := 61) hO dX4_isHeld_61 rfl ?_
          refine v_icmp_ne (pc := 62) (tgt := 69) hO dX4_isHeld_62 (by decide) (by first | assumption | exact hr.zA 0 _ | exact hr.zA 8 _ | exact hr.zA 9 _ | exact hr.zS _ | exact hMz _ | exact hMz1 _ | exact zw_R _ | (unfold zR; omega)) (by first | assumption | exact hr.zA 0 _ | exact hr.zA 8 _ | exact hr.zA 9 _ | exact hr.zS _ | exact hMz _ | exact hMz1 _ | exact zw_R _ | (unfold zR; omega)) (fun c62 => ?_) (fun c62 => ?_)
          · refine v_iconst (pc := 69) hO dX4_isHeld_69 ?_
            refine v_ior0 (pc := 70) hO dX4_isHeld_70 ?_
            refine v_istore_n (pc := 71) hO (lv' := [(3, .inl (b2i Hb)), (0, sref am), (1, .inl x), (2, .inl y), (4, .inl i)]) dX4_isHeld_71 (by decide) rfl ?_
            refine v_iinc (pc := 72) hO (lv' := [(4, .inl (i + 1)), (3, .inl (b2i Hb)), (0, sref am), (1, .inl x), (2, .inl y)]) dX4_isHeld_72 rfl (by decide) rfl ?_
            refine v_goto (pc := 75) (tgt := 31) hO dX4_isHeld_75 (by decide) ?_
            refine v_pick (lv2 := [(0, sref am), (1, .inl x), (2, .inl y), (3, .inl (b2i Hb)), (4, .inl ((i + 1)))]) [2, 3, 4, 1, 0] rfl ?_
            exact ih (i + 1, Hb) ⟨(by omega), (by omega), (by rw [hg, anyI_s (show i < M 2 by omega), show hl1P M x y i = false from decide_eq_false (by omega)]; cases Hb <;> rfl)⟩ (by show (M 2 - (i + 1)).toNat < (M 2 - i).toNat; omega)
          · refine v_iconst (pc := 65) hO dX4_isHeld_65 ?_
            refine v_goto (pc := 66) (tgt := 70) hO dX4_isHeld_66 (by decide) ?_
            refine v_ior1 (pc := 70) hO dX4_isHeld_70 ?_
            refine v_istore_n (pc := 71) hO (lv' := [(3, .inl (b2i true)), (0, sref am), (1, .inl x), (2, .inl y), (4, .inl i)]) dX4_isHeld_71 (by decide) rfl ?_
            refine v_iinc (pc := 72) hO (lv' := [(4, .inl (i + 1)), (3, .inl (b2i true)), (0, sref am), (1, .inl x), (2, .inl y)]) dX4_isHeld_72 rfl (by decide) rfl ?_
            refine v_goto (pc := 75) (tgt := 31) hO dX4_isHeld_75 (by decide) ?_
            refine v_pick (lv2 := [(0, sref am), (1, .inl x), (2, .inl y), (3, .inl (b2i true)), (4, .inl ((i + 1)))]) [2, 3, 4, 1, 0] rfl ?_
            exact ih (i + 1, true) ⟨(by omega), (by omega), (by rw [hg, anyI_s (show i < M 2 by omega), show hl1P M x y i = true from decide_eq_true (by omega)]; cases Hb <;> rfl)⟩ (by show (M 2 - (i + 1)).toNat < (M 2 - i).toNat; omega)
theorem yo_X4_isGoal : yOK yX4_isGoal 2 := by unfold yOK; exact ⟨by decide +kernel, by decide +kernel, by decide +kernel⟩
set_option maxRecDepth 100000 in
theorem m_isGoal {G : GT} {h : AH} {am : Nat} {ad : Nat → Nat} {nmf : Int → Option Nat} {S : Nat → Int} {Ar : Nat → Int → Int} {M : Int → Int} (hr : RefAt G h am ad nmf S (rA Ar 0 M)) {A : Nat → Prop} (x y : Int) (zx : zR x) (zy : zR y) (hB : Bq M) : CC G yX4_isGoal cX4_isGoal 6 (some .boolean) ({ frames := 3, cells := 0, slots := 0, locals := 55 } : Room) A [sref am, .inl x, .inl y] h (fun v h1 => v = some (.inl (b2i (decide (golQ M x y)))) ∧ h = h1) := by
  refine CC.of (by decide +kernel) [(0, sref am), (1, .inl x), (2, .inl y)] rfl (Nat.le_of_ble_eq_true rfl) (fun X hnm hO => ?_)
  have hMz : ∀ z, zR (M z) := fun z => hr.zA 0 z
  have hd := hB.hd
  have h2 := hB.1.2.1
  have h4 := hB.h4
  have h5 := hB.1.2.2.2.1
  have h8 := hB.1.2.2.2.2.1
  have hpics := hB.pics
  have h3 := hpics.1
  have h7 := hB.h7
  have h9m := hB.1.2.2.2.2.2.1
  refine v_iconst (pc := 0) hO dX4_isGoal_0 ?_
  refine v_istore_n (pc := 1) hO (lv' := [(3, .inl 0), (0, sref am), (1, .inl x), (2, .inl y)]) dX4_isGoal_1 (by decide) rfl ?_
  refine v_iconst (pc := 2) hO dX4_isGoal_2 ?_
  refine v_istore (pc := 3) hO (lv' := [(4, .inl 0), (3, .inl 0), (0, sref am), (1, .inl x), (2, .inl y)]) dX4_isGoal_3 (by decide) rfl ?_
  refine v_pick (lv2 := [(0, sref am), (1, .inl x), (2, .inl y), (3, .inl (b2i false)), (4, .inl 0)]) [2, 3, 4, 1, 0] rfl ?_
  refine v_loop (σ := Int × Bool) (fun (i, Hb) => 0 ≤ i ∧ i ≤ M 4 ∧ golM M x y = (Hb || anyI (gl1P M x y) (M 4 - i).toNat i || anyI (gl2P M x y) (M 8 - 0).toNat 0)) (fun (i, Hb) => (M 4 - i).toNat) (fun (i, Hb) => h) (fun (i, Hb) => [(0, sref am), (1, .inl x), (2, .inl y), (3, .inl (b2i Hb)), (4, .inl i)]) (0, false) ⟨Int.le_refl _, (by omega), rfl⟩ ?_
  rintro ⟨i, Hb⟩ ⟨hi0, hi1, hg⟩ ih
  show VV X G A _ _ _ h _ _ 5 [(0, sref am), (1, .inl x), (2, .inl y), (3, .inl (b2i Hb)), (4, .inl i)] []
  refine v_iload (pc := 5) hO dX4_isGoal_5 rfl ?_
  refine v_aload_n (pc := 7) hO dX4_isGoal_7 rfl ?_
  refine v_getf (pc := 8) (v := sref (ad 0)) hO cp_X4 0 q2125 hr.ob (by decide) rfl dX4_isGoal_8 ?_
  refine v_iconst (pc := 11) hO dX4_isGoal_11 ?_
  refine r_iald (pc := 12) (w := M 4) (L := 3934) hO hr 0 ri_0 rfl rfl (by omega) (by omega) dX4_isGoal_12 ?_
  refine v_icmp_ge (pc := 13) (tgt := 75) hO dX4_isGoal_13 (by decide) (by first | assumption | exact hr.zA 0 _ | exact hr.zA 8 _ | exact hr.zA 9 _ | exact hr.zS _ | exact hMz _ | exact hMz1 _ | exact zw_R _ | (unfold zR; omega)) (by first | assumption | exact hr.zA 0 _ | exact hr.zA 8 _ | exact hr.zA 9 _ | exact hr.zS _ | exact hMz _ | exact hMz1 _ | exact zw_R _ | (unfold zR; omega)) (fun c13 => ?_) (fun c13 => ?_)
  · refine v_iconst (pc := 75) hO dX4_isGoal_75 ?_
    refine v_istore (pc := 76) hO (lv' := [(4, .inl 0), (0, sref am), (1, .inl x), (2, .inl y), (3, .inl (b2i Hb))]) dX4_isGoal_76 (by decide) rfl ?_
    refine v_pick (lv2 := [(0, sref am), (1, .inl x), (2, .inl y), (3, .inl (b2i Hb)), (4, .inl 0)]) [1, 2, 3, 4, 0] rfl ?_
    refine v_loop (σ := Int × Bool) (fun (i, Hb) => 0 ≤ i ∧ i ≤ M 8 ∧ golM M x y = (Hb || anyI (gl2P M x y) (M 8 - i).toNat i)) (fun (i, Hb) => (M 8 - i).toNat) (fun (i, Hb) => h) (fun (i, Hb) => [(0, sref am), (1, .inl x), (2, .inl y), (3, .inl (b2i Hb)), (4, .inl i)]) (0, Hb) ⟨Int.le_refl _, (by omega), (by rw [hg, anyI_e (by omega), Bool.or_false])⟩ ?_
    rintro ⟨i, Hb⟩ ⟨hi0, hi1, hg⟩ ih
    show VV X G A _ _ _ h _ _ 78 [(0, sref am), (1, .inl x), (2, .inl y), (3, .inl (b2i Hb)), (4, .inl i)] []
    refine v_iload (pc := 78) hO dX4_isGoal_78 rfl ?_
    refine v_aload_n (pc := 80) hO dX4_isGoal_80 rfl ?_
    refine v_getf (pc := 81) (v := sref (ad 0)) hO cp_X4 0 q2125 hr.ob (by decide) rfl dX4_isGoal_81 ?_
    refine v_bipush (pc := 84) hO dX4_isGoal_84 (by decide +kernel) ?_
    refine r_iald (pc := 86) (w := M 8) (L := 3934) hO hr 0 ri_0 rfl rfl (by omega) (by omega) dX4_isGoal_86 ?_
    refine v_icmp_ge (pc := 87) (tgt := 164) hO dX4_isGoal_87 (by decide) (by first | assumption | exact hr.zA 0 _ | exact hr.zA 8 _ | exact hr.zA 9 _ | exact hr.zS _ | exact hMz _ | exact hMz1 _ | exact zw_R _ | (unfold zR; omega)) (by first | assumption | exact hr.zA 0 _ | exact hr.zA 8 _ | exact hr.zA 9 _ | exact hr.zS _ | exact hMz _ | exact hMz1 _ | exact zw_R _ | (unfold zR; omega)) (fun c87 => ?_) (fun c87 => ?_)
    · refine v_iload_n (pc := 164) hO dX4_isGoal_164 rfl ?_
      exact v_zret hO dX4_isGoal_165 rfl (nar_z (b2i_c _)) (Nat.le_of_ble_eq_true rfl) (Nat.le_of_ble_eq_true rfl) ⟨congrArg (fun z => some (Sum.inl z)) (by rw [Bool.decide_eq_true, hg, anyI_e (by omega), Bool.or_false]), rfl⟩
    · refine v_aload_n (pc := 90) hO dX4_isGoal_90 rfl ?_
      refine v_getf (pc := 91) (v := sref (ad 0)) hO cp_X4 0 q2125 hr.ob (by decide) rfl dX4_isGoal_91 ?_
      refine v_iload (pc := 94) hO dX4_isGoal_94 rfl ?_
      refine v_iconst (pc := 96) hO dX4_isGoal_96 ?_
      refine v_callS (pc := 97) hO (m_planAt i 3) (lw_S q2295 q2296 q117 q2297) yo_X4_planAt rfl rfl (by decide) (by decide) (k2 := 0) (n2 := 0) (by decide) (by decide) (by decide) (by decide) dX4_isGoal_97 (fun va hv hp hf1 => ?_)
      obtain ⟨rfl, rfl⟩ := hp
      refine r_iald (pc := 100) (w := M (464 + 4 * i + 3)) (L := 3934) hO hr 0 ri_0 rfl rfl (by omega) (by omega) dX4_isGoal_100 ?_
      refine v_aload_n (pc := 101) hO dX4_isGoal_101 rfl ?_
      refine v_callV (pc := 102) (b := am) hO cp_X4 hr.ob (m_turnNow hr) (lw_V q2264 q2266 qs41 q117 q2267) yo_X4_turnNow rfl rfl rfl (by decide) (by decide) (k2 := 0) (n2 := 0) (by decide) (by decide) (by decide) (by decide) dX4_isGoal_102 (fun va hv hp hf1 => ?_)
      obtain ⟨rfl, rfl⟩ := hp
      refine v_icmp_lt (pc := 105) (tgt := 112) hO dX4_isGoal_105 (by decide) (by first | assumption | exact hr.zA 0 _ | exact hr.zA 8 _ | exact hr.zA 9 _ | exact hr.zS _ | exact hMz _ | exact hMz1 _ | exact zw_R _ | (unfold zR; omega)) (by first | assumption | exact hr.zA 0 _ | exact hr.zA 8 _ | exact hr.zA 9 _ | exact hr.zS _ | exact hMz _ | exact hMz1 _ | exact zw_R _ | (unfold zR; omega)) (fun c105 => ?_) (fun c105 => ?_)
      · refine v_iconst (pc := 112) hO dX4_isGoal_112 ?_
        refine v_istore (pc := 113) hO (lv' := [(5, .inl 0), (0, sref am), (1, .inl x), (2, .inl y), (3, .inl (b2i Hb)), (4, .inl i)]) dX4_isGoal_113 (by decide) rfl ?_
        refine v_iload_n (pc := 115) hO dX4_isGoal_115 rfl ?_
        refine v_iload (pc := 116) hO dX4_isGoal_116 rfl ?_
        refine v_if_eq (pc := 118) (tgt := 155) hO dX4_isGoal_118 (by decide) (by unfold zR; omega) (fun c118 => ?_) (fun c118 => absurd c118 (by omega))
        refine v_iconst (pc := 155) hO dX4_isGoal_155 ?_
        refine v_ior0 (pc := 156) hO dX4_isGoal_156 ?_
        refine v_istore_n (pc := 157) hO (lv' := [(3, .inl (b2i Hb)), (5, .inl 0), (0, sref am), (1, .inl x), (2, .inl y), (4, .inl i)]) dX4_isGoal_157 (by decide) rfl ?_
        refine v_iinc (pc := 158) hO (lv' := [(4, .inl (i + 1)), (3, .inl (b2i Hb)), (5, .inl 0), (0, sref am), (1, .inl x), (2, .inl y)]) dX4_isGoal_158 rfl (by decide) rfl ?_
        refine v_goto (pc := 161) (tgt := 78) hO dX4_isGoal_161 (by decide) ?_
        refine v_pick (lv2 := [(0, sref am), (1, .inl x), (2, .inl y), (3, .inl (b2i Hb)), (4, .inl ((i + 1)))]) [3, 4, 5, 1, 0] rfl ?_
        exact ih (i + 1, Hb) ⟨(by omega), (by omega), (by rw [hg, anyI_s (show i < M 8 by omega), show gl2P M x y i = false from decide_eq_false (by omega)]; cases Hb <;> rfl)⟩ (by show (M 8 - (i + 1)).toNat < (M 8 - i).toNat; omega)
      · refine v_iconst (pc := 108) hO dX4_isGoal_108 ?_
        refine v_goto (pc := 109) (tgt := 113) hO dX4_isGoal_109 (by decide) ?_
        refine v_istore (pc := 113) hO (lv' := [(5, .inl 1), (0, sref am), (1, .inl x), (2, .inl y), (3, .inl (b2i Hb)), (4, .inl i)]) dX4_isGoal_113 (by decide) rfl ?_
        refine v_iload_n (pc := 115) hO dX4_isGoal_115 rfl ?_
        refine v_iload (pc := 116) hO dX4_isGoal_116 rfl ?_
        refine v_if_eq (pc := 118) (tgt := 155) hO dX4_isGoal_118 (by decide) (by unfold zR; omega) (fun c118 => absurd c118 (by omega)) (fun c118 => ?_)
        refine v_aload_n (pc := 121) hO dX4_isGoal_121 rfl ?_
        refine v_getf (pc := 122) (v := sref (ad 0)) hO cp_X4 0 q2125 hr.ob (by decide) rfl dX4_isGoal_122 ?_
        refine v_iload (pc := 125) hO dX4_isGoal_125 rfl ?_
        refine v_iconst (pc := 127) hO dX4_isGoal_127 ?_
        refine v_callS (pc := 128) hO (m_planAt i 1) (lw_S q2295 q2296 q117 q2297) yo_X4_planAt rfl rfl (by decide) (by decide) (k2 := 0) (n2 := 0) (by decide) (by decide) (by decide) (by decide) dX4_isGoal_128 (fun va hv hp hf1 => ?_)
        obtain ⟨rfl, rfl⟩ := hp
        refine r_iald (pc := 131) (w := M (464 + 4 * i + 1)) (L := 3934) hO hr 0 ri_0 rfl rfl (by omega) (by omega) dX4_isGoal_131 ?_
        refine v_iload_n (pc := 132) hO dX4_isGoal_132 rfl ?_
        refine v_icmp_ne (pc := 133) (tgt := 155) hO dX4_isGoal_133 (by decide) (by first | assumption | exact hr.zA 0 _ | exact hr.zA 8 _ | exact hr.zA 9 _ | exact hr.zS _ | exact hMz _ | exact hMz1 _ | exact zw_R _ | (unfold zR; omega)) (by first | assumption | exact hr.zA 0 _ | exact hr.zA 8 _ | exact hr.zA 9 _ | exact hr.zS _ | exact hMz _ | exact hMz1 _ | exact zw_R _ | (unfold zR; omega)) (fun c133 => ?_) (fun c133 => ?_)
        · refine v_iconst (pc := 155) hO dX4_isGoal_155 ?_
          refine v_ior0 (pc := 156) hO dX4_isGoal_156 ?_
          refine v_istore_n (pc := 157) hO (lv' := [(3, .inl (b2i Hb)), (5, .inl 1), (0, sref am), (1, .inl x), (2, .inl y), (4, .inl i)]) dX4_isGoal_157 (by decide) rfl ?_
          refine v_iinc (pc := 158) hO (lv' := [(4, .inl (i + 1)), (3, .inl (b2i Hb)), (5, .inl 1), (0, sref am), (1, .inl x), (2, .inl y)]) dX4_isGoal_158 rfl (by decide) rfl ?_
          refine v_goto (pc := 161) (tgt := 78) hO dX4_isGoal_161 (by decide) ?_
          refine v_pick (lv2 := [(0, sref am), (1, .inl x), (2, .inl y), (3, .inl (b2i Hb)), (4, .inl ((i + 1)))]) [3, 4, 5, 1, 0] rfl ?_
          exact ih (i + 1, Hb) ⟨(by omega), (by omega), (by rw [hg, anyI_s (show i < M 8 by omega), show gl2P M x y i = false from decide_eq_false (by omega)]; cases Hb <;> rfl)⟩ (by show (M 8 - (i + 1)).toNat < (M 8 - i).toNat; omega)
        · refine v_aload_n (pc := 136) hO dX4_isGoal_136 rfl ?_
          refine v_getf (pc := 137) (v := sref (ad 0)) hO cp_X4 0 q2125 hr.ob (by decide) rfl dX4_isGoal_137 ?_
          refine v_iload (pc := 140) hO dX4_isGoal_140 rfl ?_
          refine v_iconst (pc := 142) hO dX4_isGoal_142 ?_
          refine v_callS (pc := 143) hO (m_planAt i 2) (lw_S q2295 q2296 q117 q2297) yo_X4_planAt rfl rfl (by decide) (by decide) (k2 := 0) (n2 := 0) (by decide) (by decide) (by decide) (by decide) dX4_isGoal_143 (fun va hv hp hf1 => ?_)
          obtain ⟨rfl, rfl⟩ := hp
          refine r_iald (pc := 146) (w := M (464 + 4 * i + 2)) (L := 3934) hO hr 0 ri_0 rfl rfl (by omega) (by omega) dX4_isGoal_146 ?_
          refine v_iload_n (pc := 147) hO dX4_isGoal_147 rfl ?_
          refine v_icmp_ne (pc := 148) (tgt := 155) hO dX4_isGoal_148 (by decide) (by first | assumption | exact hr.zA 0 _ | exact hr.zA 8 _ | exact hr.zA 9 _ | exact hr.zS _ | exact hMz _ | exact hMz1 _ | exact zw_R _ | (unfold zR; omega)) (by first | assumption | exact hr.zA 0 _ | exact hr.zA 8 _ | exact hr.zA 9 _ | exact hr.zS _ | exact hMz _ | exact hMz1 _ | exact zw_R _ | (unfold zR; omega)) (fun c148 => ?_) (fun c148 => ?_)
          · refine v_iconst (pc := 155) hO dX4_isGoal_155 ?_
            refine v_ior0 (pc := 156) hO dX4_isGoal_156 ?_
            refine v_istore_n (pc := 157) hO (lv' := [(3, .inl (b2i Hb)), (5, .inl 1), (0, sref am), (1, .inl x), (2, .inl y), (4, .inl i)]) dX4_isGoal_157 (by decide) rfl ?_
            refine v_iinc (pc := 158) hO (lv' := [(4, .inl (i + 1)), (3, .inl (b2i Hb)), (5, .inl 1), (0, sref am), (1, .inl x), (2, .inl y)]) dX4_isGoal_158 rfl (by decide) rfl ?_
            refine v_goto (pc := 161) (tgt := 78) hO dX4_isGoal_161 (by decide) ?_
            refine v_pick (lv2 := [(0, sref am), (1, .inl x), (2, .inl y), (3, .inl (b2i Hb)), (4, .inl ((i + 1)))]) [3, 4, 5, 1, 0] rfl ?_
            exact ih (i + 1, Hb) ⟨(by omega), (by omega), (by rw [hg, anyI_s (show i < M 8 by omega), show gl2P M x y i = false from decide_eq_false (by omega)]; cases Hb <;> rfl)⟩ (by show (M 8 - (i + 1)).toNat < (M 8 - i).toNat; omega)
          · refine v_iconst (pc := 151) hO dX4_isGoal_151 ?_
            refine v_goto (pc := 152) (tgt := 156) hO dX4_isGoal_152 (by decide) ?_
            refine v_ior1 (pc := 156) hO dX4_isGoal_156 ?_
            refine v_istore_n (pc := 157) hO (lv' := [(3, .inl (b2i true)), (5, .inl 1), (0, sref am), (1, .inl x), (2, .inl y), (4, .inl i)]) dX4_isGoal_157 (by decide) rfl ?_
            refine v_iinc (pc := 158) hO (lv' := [(4, .inl (i + 1)), (3, .inl (b2i true)), (5, .inl 1), (0, sref am), (1, .inl x), (2, .inl y)]) dX4_isGoal_158 rfl (by decide) rfl ?_
            refine v_goto (pc := 161) (tgt := 78) hO dX4_isGoal_161 (by decide) ?_
            refine v_pick (lv2 := [(0, sref am), (1, .inl x), (2, .inl y), (3, .inl (b2i true)), (4, .inl ((i + 1)))]) [3, 4, 5, 1, 0] rfl ?_
            exact ih (i + 1, true) ⟨(by omega), (by omega), (by rw [hg, anyI_s (show i < M 8 by omega), show gl2P M x y i = true from decide_eq_true (by omega)]; cases Hb <;> rfl)⟩ (by show (M 8 - (i + 1)).toNat < (M 8 - i).toNat; omega)
  · refine v_aload_n (pc := 16) hO dX4_isGoal_16 rfl ?_
    refine v_iload (pc := 17) hO dX4_isGoal_17 rfl ?_
    refine v_iconst (pc := 19) hO dX4_isGoal_19 ?_
    refine v_callV (pc := 20) (b := am) hO cp_X4 hr.ob (m_ofOrder hr i 3 (by omega) (by omega)) (lw_V q2245 q2247 qs38 q117 q2248) yo_X4_ofOrder rfl rfl rfl (by decide) (by decide) (k2 := 0) (n2 := 0) (by decide) (by decide) (by decide) (by decide) dX4_isGoal_20 (fun va hv hp hf1 => ?_)
    obtain ⟨rfl, rfl⟩ := hp
    refine v_iconst (pc := 23) hO dX4_isGoal_23 ?_
    refine v_icmp_gt (pc := 24) (tgt := 31) hO dX4_isGoal_24 (by decide) (by first | assumption | exact hr.zA 0 _ | exact hr.zA 8 _ | exact hr.zA 9 _ | exact hr.zS _ | exact hMz _ | exact hMz1 _ | exact zw_R _ | (unfold zR; omega)) (by first | assumption | exact hr.zA 0 _ | exact hr.zA 8 _ | exact hr.zA 9 _ | exact hr.zS _ | exact hMz _ | exact hMz1 _ | exact zw_R _ | (unfold zR; omega)) (fun c24 => ?_) (fun c24 => ?_)
    · refine v_iconst (pc := 31) hO dX4_isGoal_31 ?_
      refine v_istore (pc := 32) hO (lv' := [(5, .inl 0), (0, sref am), (1, .inl x), (2, .inl y), (3, .inl (b2i Hb)), (4, .inl i)]) dX4_isGoal_32 (by decide) rfl ?_
      refine v_iload_n (pc := 34) hO dX4_isGoal_34 rfl ?_
      refine v_iload (pc := 35) hO dX4_isGoal_35 rfl ?_
      refine v_if_eq (pc := 37) (tgt := 66) hO dX4_isGoal_37 (by decide) (by unfold zR; omega) (fun c37 => ?_) (fun c37 => absurd c37 (by omega))
      refine v_iconst (pc := 66) hO dX4_isGoal_66 ?_
      refine v_ior0 (pc := 67) hO dX4_isGoal_67 ?_
      refine v_istore_n (pc := 68) hO (lv' := [(3, .inl (b2i Hb)), (5, .inl 0), (0, sref am), (1, .inl x), (2, .inl y), (4, .inl i)]) dX4_isGoal_68 (by decide) rfl ?_
      refine v_iinc (pc := 69) hO (lv' := [(4, .inl (i + 1)), (3, .inl (b2i Hb)), (5, .inl 0), (0, sref am), (1, .inl x), (2, .inl y)]) dX4_isGoal_69 rfl (by decide) rfl ?_
      refine v_goto (pc := 72) (tgt := 5) hO dX4_isGoal_72 (by decide) ?_
      refine v_pick (lv2 := [(0, sref am), (1, .inl x), (2, .inl y), (3, .inl (b2i Hb)), (4, .inl ((i + 1)))]) [3, 4, 5, 1, 0] rfl ?_
      exact ih (i + 1, Hb) ⟨(by omega), (by omega), (by rw [hg, anyI_s (show i < M 4 by omega), show gl1P M x y i = false from decide_eq_false (by omega)]; cases Hb <;> rfl)⟩ (by show (M 4 - (i + 1)).toNat < (M 4 - i).toNat; omega)
    · refine v_iconst (pc := 27) hO dX4_isGoal_27 ?_
      refine v_goto (pc := 28) (tgt := 32) hO dX4_isGoal_28 (by decide) ?_
      refine v_istore (pc := 32) hO (lv' := [(5, .inl 1), (0, sref am), (1, .inl x), (2, .inl y), (3, .inl (b2i Hb)), (4, .inl i)]) dX4_isGoal_32 (by decide) rfl ?_
      refine v_iload_n (pc := 34) hO dX4_isGoal_34 rfl ?_
      refine v_iload (pc := 35) hO dX4_isGoal_35 rfl ?_
      refine v_if_eq (pc := 37) (tgt := 66) hO dX4_isGoal_37 (by decide) (by unfold zR; omega) (fun c37 => absurd c37 (by omega)) (fun c37 => ?_)
      refine v_aload_n (pc := 40) hO dX4_isGoal_40 rfl ?_
      refine v_iload (pc := 41) hO dX4_isGoal_41 rfl ?_
      refine v_iconst (pc := 43) hO dX4_isGoal_43 ?_
      refine v_callV (pc := 44) (b := am) hO cp_X4 hr.ob (m_ofOrder hr i 1 (by omega) (by omega)) (lw_V q2245 q2247 qs38 q117 q2248) yo_X4_ofOrder rfl rfl rfl (by decide) (by decide) (k2 := 0) (n2 := 0) (by decide) (by decide) (by decide) (by decide) dX4_isGoal_44 (fun va hv hp hf1 => ?_)
      obtain ⟨rfl, rfl⟩ := hp
      refine v_iload_n (pc := 47) hO dX4_isGoal_47 rfl ?_
      refine v_icmp_ne (pc := 48) (tgt := 66) hO dX4_isGoal_48 (by decide) (by first | assumption | exact hr.zA 0 _ | exact hr.zA 8 _ | exact hr.zA 9 _ | exact hr.zS _ | exact hMz _ | exact hMz1 _ | exact zw_R _ | (unfold zR; omega)) (by first | assumption | exact hr.zA 0 _ | exact hr.zA 8 _ | exact hr.zA 9 _ | exact hr.zS _ | exact hMz _ | exact hMz1 _ | exact zw_R _ | (unfold zR; omega)) (fun c48 => ?_) (fun c48 => ?_)
      · refine v_iconst (pc := 66) hO dX4_isGoal_66 ?_
        refine v_ior0 (pc := 67) hO dX4_isGoal_67 ?_
        refine v_istore_n (pc := 68) hO (lv' := [(3, .inl (b2i Hb)), (5, .inl 1), (0, sref am), (1, .inl x), (2, .inl y), (4, .inl i)]) dX4_isGoal_68 (by decide) rfl ?_
        refine v_iinc (pc := 69) hO (lv' := [(4, .inl (i + 1)), (3, .inl (b2i Hb)), (5, .inl 1), (0, sref am), (1, .inl x), (2, .inl y)]) dX4_isGoal_69 rfl (by decide) rfl ?_
        refine v_goto (pc := 72) (tgt := 5) hO dX4_isGoal_72 (by decide) ?_
        refine v_pick (lv2 := [(0, sref am), (1, .inl x), (2, .inl y), (3, .inl (b2i Hb)), (4, .inl ((i + 1)))]) [3, 4, 5, 1, 0] rfl ?_
        exact ih (i + 1, Hb) ⟨(by omega), (by omega), (by rw [hg, anyI_s (show i < M 4 by omega), show gl1P M x y i = false from decide_eq_false (by omega)]; cases Hb <;> rfl)⟩ (by show (M 4 - (i + 1)).toNat < (M 4 - i).toNat; omega)
      · refine v_aload_n (pc := 51) hO dX4_isGoal_51 rfl ?_
        refine v_iload (pc := 52) hO dX4_isGoal_52 rfl ?_
        refine v_iconst (pc := 54) hO dX4_isGoal_54 ?_
        refine v_callV (pc := 55) (b := am) hO cp_X4 hr.ob (m_ofOrder hr i 2 (by omega) (by omega)) (lw_V q2245 q2247 qs38 q117 q2248) yo_X4_ofOrder rfl rfl rfl (by decide) (by decide) (k2 := 0) (n2 := 0) (by decide) (by decide) (by decide) (by decide) dX4_isGoal_55 (fun va hv hp hf1 => ?_)
        obtain ⟨rfl, rfl⟩ := hp
        refine v_iload_n (pc := 58) hO dX4_isGoal_58 rfl ?_
        refine v_icmp_ne (pc := 59) (tgt := 66) hO dX4_isGoal_59 (by decide) (by first | assumption | exact hr.zA 0 _ | exact hr.zA 8 _ | exact hr.zA 9 _ | exact hr.zS _ | exact hMz _ | exact hMz1 _ | exact zw_R _ | (unfold zR; omega)) (by first | assumption | exact hr.zA 0 _ | exact hr.zA 8 _ | exact hr.zA 9 _ | exact hr.zS _ | exact hMz _ | exact hMz1 _ | exact zw_R _ | (unfold zR; omega)) (fun c59 => ?_) (fun c59 => ?_)
        · refine v_iconst (pc := 66) hO dX4_isGoal_66 ?_
          refine v_ior0 (pc := 67) hO dX4_isGoal_67 ?_
          refine v_istore_n (pc := 68) hO (lv' := [(3, .inl (b2i Hb)), (5, .inl 1), (0, sref am), (1, .inl x), (2, .inl y), (4, .inl i)]) dX4_isGoal_68 (by decide) rfl ?_
          refine v_iinc (pc := 69) hO (lv' := [(4, .inl (i + 1)), (3, .inl (b2i Hb)), (5, .inl 1), (0, sref am), (1, .inl x), (2, .inl y)]) dX4_isGoal_69 rfl (by decide) rfl ?_
          refine v_goto (pc := 72) (tgt := 5) hO dX4_isGoal_72 (by decide) ?_
          refine v_pick (lv2 := [(0, sref am), (1, .inl x), (2, .inl y), (3, .inl (b2i Hb)), (4, .inl ((i + 1)))]) [3, 4, 5, 1, 0] rfl ?_
          exact ih (i + 1, Hb) ⟨(by omega), (by omega), (by rw [hg, anyI_s (show i < M 4 by omega), show gl1P M x y i = false from decide_eq_false (by omega)]; cases Hb <;> rfl)⟩ (by show (M 4 - (i + 1)).toNat < (M 4 - i).toNat; omega)
        · refine v_iconst (pc := 62) hO dX4_isGoal_62 ?_
          refine v_goto (pc := 63) (tgt := 67) hO dX4_isGoal_63 (by decide) ?_
          refine v_ior1 (pc := 67) hO dX4_isGoal_67 ?_
          refine v_istore_n (pc := 68) hO (lv' := [(3, .inl (b2i true)), (5, .inl 1), (0, sref am), (1, .inl x), (2, .inl y), (4, .inl i)]) dX4_isGoal_68 (by decide) rfl ?_
          refine v_iinc (pc := 69) hO (lv' := [(4, .inl (i + 1)), (3, .inl (b2i true)), (5, .inl 1), (0, sref am), (1, .inl x), (2, .inl y)]) dX4_isGoal_69 rfl (by decide) rfl ?_
          refine v_goto (pc := 72) (tgt := 5) hO dX4_isGoal_72 (by decide) ?_
          refine v_pick (lv2 := [(0, sref am), (1, .inl x), (2, .inl y), (3, .inl (b2i true)), (4, .inl ((i + 1)))]) [3, 4, 5, 1, 0] rfl ?_
          exact ih (i + 1, true) ⟨(by omega), (by omega), (by rw [hg, anyI_s (show i < M 4 by omega), show gl1P M x y i = true from decide_eq_true (by omega)]; cases Hb <;> rfl)⟩ (by show (M 4 - (i + 1)).toNat < (M 4 - i).toNat; omega)
theorem yo_X4_pass : yOK yX4_pass 1 := by unfold yOK; exact ⟨by decide +kernel, by decide +kernel, by decide +kernel⟩
set_option maxRecDepth 100000 in
theorem m_pass {G : GT} {h : AH} {am : Nat} {ad : Nat → Nat} {nmf : Int → Option Nat} {S : Nat → Int} {Ar : Nat → Int → Int} {M : Int → Int} (hr : RefAt G h am ad nmf S (rA Ar 0 M)) {A : Nat → Prop} (hA : ∀ q, RA am ad q → A q) (t : Int) (zt : zR t) (hB : Bq M) (hT : M 5 ≤ 500) (rows : Int → Int → Int) (hn0 : 0 ≤ S 5) (hn1 : S 5 ≤ 10) (hh : Hst (Ar 4) (S 5) rows) : CC G yX4_pass cX4_pass 4 (some .int) ({ frames := 9, cells := 0, slots := 0, locals := 195 } : Room) A [sref am, .inl t] h (fun v h1 => (¬ inb t 1 60 ∧ v = some (.inl 0) ∧ RefAt G h1 am ad nmf (rS S 6 1) (rA Ar 0 M)) ∨ ((inb t 1 60 ∧ M 5 + t > 500) ∧ v = some (.inl (-2)) ∧ RefAt G h1 am ad nmf (rS S 6 0) (rA Ar 0 M)) ∨ ((inb t 1 60 ∧ M 5 + t ≤ 500) ∧ v = some (.inl (psN M t 7 - M 7)) ∧ ∃ Hh Ar2, RefAt G h1 am ad nmf (rS (rS S 5 (recN (S 5))) 6 0) (rA Ar2 0 (psN M t)) ∧ scr2 Ar2 (rA Ar 4 Hh) ∧ Hst Hh (recN (S 5)) (recR rows (S 5) M))) := by
  refine CC.of (by decide +kernel) [(0, sref am), (1, .inl t)] rfl (Nat.le_of_ble_eq_true rfl) (fun X hnm hO => ?_)
  have hMz : ∀ z, zR (M z) := fun z => hr.zA 0 z
  have hd := hB.hd
  have h2 := hB.1.2.1
  have h4 := hB.h4
  have h5 := hB.1.2.2.2.1
  have h8 := hB.1.2.2.2.2.1
  have hpics := hB.pics
  have h3 := hpics.1
  have h7 := hB.h7
  have h9m := hB.1.2.2.2.2.2.1
  have hBM := hB
  refine v_aload_n (pc := 0) hO dX4_pass_0 rfl ?_
  refine v_iconst (pc := 1) hO dX4_pass_1 ?_
  refine r_puti (pc := 2) (S2 := (rS S 6 0)) hO hr hA 6 rn_6 q2131 rfl (by first | assumption | exact hr.zA 0 _ | exact hr.zA 8 _ | exact hr.zA 9 _ | exact hr.zS _ | exact hMz _ | exact hMz1 _ | exact zw_R _ | (unfold zR; omega)) dX4_pass_2 (fun h hr => ?_)
  refine v_iload_n (pc := 5) hO dX4_pass_5 rfl ?_
  refine v_iconst (pc := 6) hO dX4_pass_6 ?_
  refine v_bipush (pc := 7) hO dX4_pass_7 (by decide +kernel) ?_
  refine v_callS (pc := 9) hO (m_inRange t 1 60 (by first | assumption | exact hr.zA 0 _ | exact hr.zA 8 _ | exact hr.zA 9 _ | exact hr.zS _ | exact hMz _ | exact hMz1 _ | (unfold zR; omega)) (by first | assumption | exact hr.zA 0 _ | exact hr.zA 8 _ | exact hr.zA 9 _ | exact hr.zS _ | exact hMz _ | exact hMz1 _ | (unfold zR; omega)) (by first | assumption | exact hr.zA 0 _ | exact hr.zA 8 _ | exact hr.zA 9 _ | exact hr.zS _ | exact hMz _ | exact hMz1 _ | (unfold zR; omega))) (lw_S q2219 q2220 q117 q2221) yo_X4_inRange rfl rfl (by decide) (by decide) (k2 := 0) (n2 := 0) (by decide) (by decide) (by decide) (by decide) dX4_pass_9 (fun va hv hp hf1 => ?_)
  obtain ⟨rfl, rfl⟩ := hp
  refine v_ifb_ne (pc := 12) (tgt := 21) hO dX4_pass_12 (by decide) (fun c12 => ?_) (fun c12 => ?_)
  · refine v_aload_n (pc := 21) hO dX4_pass_21 rfl ?_
    refine v_callV (pc := 22) (b := am) hO cp_X4 hr.ob (m_turnNow hr) (lw_V q2264 q2266 qs41 q117 q2267) yo_X4_turnNow rfl rfl rfl (by decide) (by decide) (k2 := 0) (n2 := 0) (by decide) (by decide) (by decide) (by decide) dX4_pass_22 (fun va hv hp hf1 => ?_)
    obtain ⟨rfl, rfl⟩ := hp
    refine v_iload_n (pc := 25) hO dX4_pass_25 rfl ?_
    refine v_iadd (pc := 26) hO dX4_pass_26 ?_
    refine v_sipush (pc := 27) hO dX4_pass_27 (by decide +kernel) ?_
    refine v_icmp_le (pc := 30) (tgt := 36) hO dX4_pass_30 (by decide) (by first | assumption | exact hr.zA 0 _ | exact hr.zA 8 _ | exact hr.zA 9 _ | exact hr.zS _ | exact hMz _ | exact hMz1 _ | exact zw_R _ | (unfold zR; omega)) (by first | assumption | exact hr.zA 0 _ | exact hr.zA 8 _ | exact hr.zA 9 _ | exact hr.zS _ | exact hMz _ | exact hMz1 _ | exact zw_R _ | (unfold zR; omega)) (fun c30 => ?_) (fun c30 => ?_)
    · refine v_aload_n (pc := 36) hO dX4_pass_36 rfl ?_
      refine v_callV (pc := 37) (b := am) hO cp_X4 hr.ob (m_record hr hA rows hn0 hn1 hh) (lw_V q2471 q2473 qs70 q117 q2474) yo_X4_record rfl rfl rfl (by decide) (by decide) (k2 := 0) (n2 := 0) (by decide) (by decide) (by decide) (by decide) dX4_pass_37 (fun va hv hp hf1 => ?_)
      obtain ⟨rfl, Hh, hr, hHh⟩ := hp
      rw [rS_sw (by decide)] at hr
      refine v_aload_n (pc := 40) hO dX4_pass_40 rfl ?_
      refine v_getf (pc := 41) (v := sref (ad 0)) hO cp_X4 0 q2125 hr.ob (by decide) rfl dX4_pass_41 ?_
      refine v_bipush (pc := 44) hO dX4_pass_44 (by decide +kernel) ?_
      refine r_iald (pc := 46) (w := M 7) (L := 3934) hO hr 0 ri_0 rfl rfl (by omega) (by omega) dX4_pass_46 ?_
      refine v_istore_n (pc := 47) hO (lv' := [(2, .inl (M 7)), (0, sref am), (1, .inl t)]) dX4_pass_47 (by decide) rfl ?_
      
      refine v_iconst (pc := 48) hO dX4_pass_48 ?_
      refine v_istore_n (pc := 49) hO (lv' := [(3, .inl 0), (2, .inl (M 7)), (0, sref am), (1, .inl t)]) dX4_pass_49 (by decide) rfl ?_
      refine v_pick (lv2 := [(0, sref am), (1, .inl t), (2, .inl (M 7)), (3, .inl 0)]) [2, 3, 1, 0] rfl ?_
      refine v_loop (σ := Int × (Int → Int) × (Nat → Int → Int) × AH) (fun (k, M1, Ar1, hL) => 0 ≤ k ∧ k ≤ t ∧ Bq M1 ∧ RefAt G hL am ad nmf (rS (rS S 5 (recN (S 5))) 6 0) (rA Ar1 0 M1) ∧ scr2 Ar1 (rA Ar 4 Hh) ∧ psN M t = itI (fun _ => pasM) (t - k).toNat k M1 ∧ M1 5 = M 5 + k) (fun (k, M1, Ar1, hL) => (t - k).toNat) (fun (k, M1, Ar1, hL) => hL) (fun (k, M1, Ar1, hL) => [(0, sref am), (1, .inl t), (2, .inl (M 7)), (3, .inl k)]) (0, M, (rA Ar 4 Hh), _) ⟨Int.le_refl _, (by omega), hBM, hr, scr2_rf _, rfl, (by first | omega | (rw [Int.add_zero]; assumption))⟩ ?_
      rintro ⟨k, M1, Ar1, hL⟩ ⟨hk0, hk1, hB, hr, hsc, hg, h5k⟩ ih
      show VV X G A _ _ _ hL _ _ 50 [(0, sref am), (1, .inl t), (2, .inl (M 7)), (3, .inl k)] []
      refine v_iload_n (pc := 50) hO dX4_pass_50 rfl ?_
      refine v_iload_n (pc := 51) hO dX4_pass_51 rfl ?_
      refine v_icmp_ge (pc := 52) (tgt := 65) hO dX4_pass_52 (by decide) (by first | assumption | exact hr.zA 0 _ | exact hr.zA 8 _ | exact hr.zA 9 _ | exact hr.zS _ | exact hMz _ | exact hMz1 _ | exact zw_R _ | (unfold zR; omega)) (by first | assumption | exact hr.zA 0 _ | exact hr.zA 8 _ | exact hr.zA 9 _ | exact hr.zS _ | exact hMz _ | exact hMz1 _ | exact zw_R _ | (unfold zR; omega)) (fun c52 => ?_) (fun c52 => ?_)
      · refine v_aload_n (pc := 65) hO dX4_pass_65 rfl ?_
        refine v_getf (pc := 66) (v := sref (ad 0)) hO cp_X4 0 q2125 hr.ob (by decide) rfl dX4_pass_66 ?_
        refine v_bipush (pc := 69) hO dX4_pass_69 (by decide +kernel) ?_
        refine r_iald (pc := 71) (w := M1 7) (L := 3934) hO hr 0 ri_0 rfl rfl (by omega) (by omega) dX4_pass_71 ?_
        refine v_iload_n (pc := 72) hO dX4_pass_72 rfl ?_
        refine v_isub (pc := 73) hO dX4_pass_73 ?_
        exact v_iret hO dX4_pass_74 rfl (Nat.le_of_ble_eq_true rfl) (Nat.le_of_ble_eq_true rfl) (Or.inr (Or.inr ⟨by omega, congrArg (fun z => some (Sum.inl z)) (by rw [hg.trans (itI_e (by omega))]), Hh, _, (by rw [hg.trans (itI_e (by omega))]; exact hr), hsc, hHh⟩))
      · refine v_aload_n (pc := 55) hO dX4_pass_55 rfl ?_
        refine v_callV (pc := 56) (b := am) hO cp_X4 hr.ob (m_passTurn hr hA hB (by omega)) (lw_V q2395 q2397 qs57 q117 q2398) yo_X4_passTurn rfl rfl rfl (by decide) (by decide) (k2 := 0) (n2 := 0) (by decide) (by decide) (by decide) (by decide) dX4_pass_56 (fun va hv hp hf1 => ?_)
        obtain ⟨rfl, Ar_1, hr, hsAr_1⟩ := hp
        have hsAr_1 := hsAr_1.s2.tr hsc
        refine v_iinc (pc := 59) hO (lv' := [(3, .inl (k + 1)), (0, sref am), (1, .inl t), (2, .inl (M 7))]) dX4_pass_59 rfl (by decide) rfl ?_
        refine v_goto (pc := 62) (tgt := 50) hO dX4_pass_62 (by decide) ?_
        refine v_pick (lv2 := [(0, sref am), (1, .inl t), (2, .inl (M 7)), (3, .inl ((k + 1)))]) [1, 2, 3, 0] rfl ?_
        exact ih (k + 1, pasM M1, Ar_1, _) ⟨(by omega), (by omega), (pasM_Bq hB (by omega)).1, hr, hsAr_1, (hg.trans (itI_s (by omega))), (by rw [(pasM_Bq hB (by omega)).2.1]; omega)⟩ (by show (t - (k + 1)).toNat < (t - k).toNat; omega)
    · refine v_bipush (pc := 33) hO dX4_pass_33 (by decide +kernel) ?_
      exact v_iret hO dX4_pass_35 rfl (Nat.le_of_ble_eq_true rfl) (Nat.le_of_ble_eq_true rfl) (Or.inr (Or.inl ⟨by omega, rfl, hr⟩))
  · refine v_aload_n (pc := 15) hO dX4_pass_15 rfl ?_
    refine v_iconst (pc := 16) hO dX4_pass_16 ?_
    refine v_callV (pc := 17) (b := am) hO cp_X4 hr.ob (m_raise hr hA 1 (by unfold zR; omega)) (lw_V q2222 q2224 qs34 q117 q2225) yo_X4_raise rfl rfl rfl (by decide) (by decide) (k2 := 0) (n2 := 0) (by decide) (by decide) (by decide) (by decide) dX4_pass_17 (fun va hv hp hf1 => ?_)
    obtain ⟨rfl, hr⟩ := hp
    rw [rS_rS] at hr
    exact v_iret hO dX4_pass_20 rfl (Nat.le_of_ble_eq_true rfl) (Nat.le_of_ble_eq_true rfl) (Or.inl ⟨by omega, rfl, hr⟩)
theorem yo_X4_send : yOK yX4_send 3 := by unfold yOK; exact ⟨by decide +kernel, by decide +kernel, by decide +kernel⟩
set_option maxRecDepth 100000 in
theorem m_send {G : GT} {h : AH} {am : Nat} {ad : Nat → Nat} {nmf : Int → Option Nat} {S : Nat → Int} {Ar : Nat → Int → Int} {M : Int → Int} (hr : RefAt G h am ad nmf S (rA Ar 0 M)) {A : Nat → Prop} (hA : ∀ q, RA am ad q → A q) (a x y : Int) (za : zR a) (zx : zR x) (zy : zR y) (hB : Bq M) (hT : M 5 ≤ 500) (rows : Int → Int → Int) (hn0 : 0 ≤ S 5) (hn1 : S 5 ≤ 10) (hh : Hst (Ar 4) (S 5) rows) : CC G yX4_send cX4_send 4 (some .int) ({ frames := 5, cells := 0, slots := 0, locals := 101 } : Room) A [sref am, .inl a, .inl x, .inl y] h (fun v h1 => (¬ tgtP M a x y ∧ v = some (.inl 0) ∧ RefAt G h1 am ad nmf (rS S 6 1) (rA Ar 0 M)) ∨ ((tgtP M a x y ∧ ¬ M (784 + 12 * y + x) = 0) ∧ v = some (.inl 0) ∧ RefAt G h1 am ad nmf (rS S 6 2) (rA Ar 0 M)) ∨ (((tgtP M a x y ∧ M (784 + 12 * y + x) = 0) ∧ M 4 = 40) ∧ v = some (.inl (-3)) ∧ RefAt G h1 am ad nmf (rS S 6 0) (rA Ar 0 M)) ∨ (((tgtP M a x y ∧ M (784 + 12 * y + x) = 0) ∧ M 4 < 40) ∧ v = some (.inl (M 4)) ∧ ∃ Hh Ar2, RefAt G h1 am ad nmf (rS (rS S 5 (recN (S 5))) 6 0) (rA Ar2 0 (dspM M a x y)) ∧ scr2 Ar2 (rA Ar 4 Hh) ∧ Hst Hh (recN (S 5)) (recR rows (S 5) M))) := by
  refine CC.of (by decide +kernel) [(0, sref am), (1, .inl a), (2, .inl x), (3, .inl y)] rfl (Nat.le_of_ble_eq_true rfl) (fun X hnm hO => ?_)
  have hMz : ∀ z, zR (M z) := fun z => hr.zA 0 z
  have hd := hB.hd
  have h2 := hB.1.2.1
  have h4 := hB.h4
  have h5 := hB.1.2.2.2.1
  have h8 := hB.1.2.2.2.2.1
  have hpics := hB.pics
  have h3 := hpics.1
  have h7 := hB.h7
  have h9m := hB.1.2.2.2.2.2.1
  refine v_aload_n (pc := 0) hO dX4_send_0 rfl ?_
  refine v_iload_n (pc := 1) hO dX4_send_1 rfl ?_
  refine v_iload_n (pc := 2) hO dX4_send_2 rfl ?_
  refine v_iload_n (pc := 3) hO dX4_send_3 rfl ?_
  refine v_callV (pc := 4) (b := am) hO cp_X4 hr.ob (m_isTarget hr hA a x y (by assumption) (by assumption) (by assumption) hB) (lw_V q2380 q2382 qs54 q117 q2383) yo_X4_isTarget rfl rfl rfl (by decide) (by decide) (k2 := 0) (n2 := 0) (by decide) (by decide) (by decide) (by decide) dX4_send_4 (fun va hv hp hf1 => ?_)
  rcases hp with ⟨ht, rfl, hr⟩ | ⟨ht, rfl, hr⟩ | ⟨ht, rfl, hr⟩
  · refine v_if_ne (pc := 7) (tgt := 12) hO dX4_send_7 (by decide) (by unfold zR; omega) (fun c7 => ?_) (fun c7 => absurd c7 (by omega))
    refine v_aload_n (pc := 12) hO dX4_send_12 rfl ?_
    refine v_getf (pc := 13) (v := sref (ad 0)) hO cp_X4 0 q2125 hr.ob (by decide) rfl dX4_send_13 ?_
    refine v_iconst (pc := 16) hO dX4_send_16 ?_
    refine r_iald (pc := 17) (w := M 4) (L := 3934) hO hr 0 ri_0 rfl rfl (by omega) (by omega) dX4_send_17 ?_
    refine v_bipush (pc := 18) hO dX4_send_18 (by decide +kernel) ?_
    refine v_icmp_ne (pc := 20) (tgt := 26) hO dX4_send_20 (by decide) (by first | assumption | exact hr.zA 0 _ | exact hr.zA 8 _ | exact hr.zA 9 _ | exact hr.zS _ | exact hMz _ | exact hMz1 _ | exact zw_R _ | (unfold zR; omega)) (by first | assumption | exact hr.zA 0 _ | exact hr.zA 8 _ | exact hr.zA 9 _ | exact hr.zS _ | exact hMz _ | exact hMz1 _ | exact zw_R _ | (unfold zR; omega)) (fun c20 => ?_) (fun c20 => ?_)
    · refine v_aload_n (pc := 26) hO dX4_send_26 rfl ?_
      refine v_callV (pc := 27) (b := am) hO cp_X4 hr.ob (m_record hr hA rows hn0 hn1 hh) (lw_V q2471 q2473 qs70 q117 q2474) yo_X4_record rfl rfl rfl (by decide) (by decide) (k2 := 0) (n2 := 0) (by decide) (by decide) (by decide) (by decide) dX4_send_27 (fun va hv hp hf1 => ?_)
      obtain ⟨rfl, Hh, hr, hHh⟩ := hp
      rw [rS_sw (by decide)] at hr
      refine v_aload_n (pc := 30) hO dX4_send_30 rfl ?_
      refine v_iload_n (pc := 31) hO dX4_send_31 rfl ?_
      refine v_iload_n (pc := 32) hO dX4_send_32 rfl ?_
      refine v_iload_n (pc := 33) hO dX4_send_33 rfl ?_
      refine v_callV (pc := 34) (b := am) hO cp_X4 hr.ob (m_dispatch hr hA a x y (by first | assumption | exact hr.zA 0 _ | exact hr.zA 8 _ | exact hr.zA 9 _ | exact hr.zS _ | exact hMz _ | exact hMz1 _ | (unfold zR; omega)) (by first | assumption | exact hr.zA 0 _ | exact hr.zA 8 _ | exact hr.zA 9 _ | exact hr.zS _ | exact hMz _ | exact hMz1 _ | (unfold zR; omega)) (by first | assumption | exact hr.zA 0 _ | exact hr.zA 8 _ | exact hr.zA 9 _ | exact hr.zS _ | exact hMz _ | exact hMz1 _ | (unfold zR; omega)) (by omega) (by omega)) (lw_V q2391 q2393 qs56 q117 q2394) yo_X4_dispatch rfl rfl rfl (by decide) (by decide) (k2 := 0) (n2 := 0) (by decide) (by decide) (by decide) (by decide) dX4_send_34 (fun va hv hp hf1 => ?_)
      obtain ⟨rfl, hr⟩ := hp
      refine v_aload_n (pc := 37) hO dX4_send_37 rfl ?_
      refine v_getf (pc := 38) (v := sref (ad 0)) hO cp_X4 0 q2125 hr.ob (by decide) rfl dX4_send_38 ?_
      refine v_iconst (pc := 41) hO dX4_send_41 ?_
      refine r_iald (pc := 42) (w := (dspM M a x y) 4) (L := 3934) hO hr 0 ri_0 rfl rfl (by omega) (by omega) dX4_send_42 ?_
      refine v_iconst (pc := 43) hO dX4_send_43 ?_
      refine v_isub (pc := 44) hO dX4_send_44 ?_
      exact v_iret hO dX4_send_45 rfl (Nat.le_of_ble_eq_true rfl) (Nat.le_of_ble_eq_true rfl) (Or.inr (Or.inr (Or.inr ⟨by omega, congrArg (fun z => some (Sum.inl z)) (by rw [show dspM M a x y 4 = M 4 + 1 from (dspM_Bq hB (u := a) (x := x) (y := y) (by omega) (by omega) (by omega)).2.2]; omega), Hh, _, hr, scr2_rf _, hHh⟩)))
    · refine v_bipush (pc := 23) hO dX4_send_23 (by decide +kernel) ?_
      exact v_iret hO dX4_send_25 rfl (Nat.le_of_ble_eq_true rfl) (Nat.le_of_ble_eq_true rfl) (Or.inr (Or.inr (Or.inl ⟨by omega, rfl, hr⟩)))
  · refine v_if_ne (pc := 7) (tgt := 12) hO dX4_send_7 (by decide) (by unfold zR; omega) (fun c7 => absurd c7 (by omega)) (fun c7 => ?_)
    refine v_iconst (pc := 10) hO dX4_send_10 ?_
    exact v_iret hO dX4_send_11 rfl (Nat.le_of_ble_eq_true rfl) (Nat.le_of_ble_eq_true rfl) (Or.inl ⟨by omega, rfl, hr⟩)
  · refine v_if_ne (pc := 7) (tgt := 12) hO dX4_send_7 (by decide) (by unfold zR; omega) (fun c7 => absurd c7 (by omega)) (fun c7 => ?_)
    refine v_iconst (pc := 10) hO dX4_send_10 ?_
    exact v_iret hO dX4_send_11 rfl (Nat.le_of_ble_eq_true rfl) (Nat.le_of_ble_eq_true rfl) (Or.inr (Or.inl ⟨by omega, rfl, hr⟩))
theorem yo_X4_wall : yOK yX4_wall 2 := by unfold yOK; exact ⟨by decide +kernel, by decide +kernel, by decide +kernel⟩
set_option maxRecDepth 100000 in
theorem m_wall {G : GT} {h : AH} {am : Nat} {ad : Nat → Nat} {nmf : Int → Option Nat} {S : Nat → Int} {Ar : Nat → Int → Int} {M : Int → Int} (hr : RefAt G h am ad nmf S (rA Ar 0 M)) {A : Nat → Prop} (hA : ∀ q, RA am ad q → A q) (x y : Int) (zx : zR x) (zy : zR y) (hB : Bq M) (hT : M 5 ≤ 500) (rows : Int → Int → Int) (hn0 : 0 ≤ S 5) (hn1 : S 5 ≤ 10) (hh : Hst (Ar 4) (S 5) rows) : CC G yX4_wall cX4_wall 3 (some .int) ({ frames := 4, cells := 0, slots := 0, locals := 80 } : Room) A [sref am, .inl x, .inl y] h (fun v h1 => (¬ cellM M x y ∧ v = some (.inl 0) ∧ RefAt G h1 am ad nmf (rS S 6 1) (rA Ar 0 M)) ∨ ((cellM M x y ∧ hldP M x y) ∧ v = some (.inl (-2)) ∧ RefAt G h1 am ad nmf (rS S 6 0) (rA Ar 0 M)) ∨ ((cellM M x y ∧ ¬ hldP M x y ∧ golQ M x y) ∧ v = some (.inl (-3)) ∧ RefAt G h1 am ad nmf (rS S 6 0) (rA Ar 0 M)) ∨ ((cellM M x y ∧ ¬ hldP M x y ∧ ¬ golQ M x y) ∧ v = some (.inl (walM M x y 6)) ∧ ∃ Hh Ar2, RefAt G h1 am ad nmf (rS (rS S 5 (recN (S 5))) 6 0) (rA Ar2 0 (walM M x y)) ∧ scr2 Ar2 (rA Ar 4 Hh) ∧ Hst Hh (recN (S 5)) (recR rows (S 5) M))) := by
  refine CC.of (by decide +kernel) [(0, sref am), (1, .inl x), (2, .inl y)] rfl (Nat.le_of_ble_eq_true rfl) (fun X hnm hO => ?_)
  have hMz : ∀ z, zR (M z) := fun z => hr.zA 0 z
  have hd := hB.hd
  have h2 := hB.1.2.1
  have h4 := hB.h4
  have h5 := hB.1.2.2.2.1
  have h8 := hB.1.2.2.2.2.1
  have hpics := hB.pics
  have h3 := hpics.1
  have h7 := hB.h7
  have h9m := hB.1.2.2.2.2.2.1
  refine v_aload_n (pc := 0) hO dX4_wall_0 rfl ?_
  refine v_iconst (pc := 1) hO dX4_wall_1 ?_
  refine r_puti (pc := 2) (S2 := (rS S 6 0)) hO hr hA 6 rn_6 q2131 rfl (by first | assumption | exact hr.zA 0 _ | exact hr.zA 8 _ | exact hr.zA 9 _ | exact hr.zS _ | exact hMz _ | exact hMz1 _ | exact zw_R _ | (unfold zR; omega)) dX4_wall_2 (fun h hr => ?_)
  refine v_aload_n (pc := 5) hO dX4_wall_5 rfl ?_
  refine v_iload_n (pc := 6) hO dX4_wall_6 rfl ?_
  refine v_iload_n (pc := 7) hO dX4_wall_7 rfl ?_
  refine v_callV (pc := 8) (b := am) hO cp_X4 hr.ob (m_isCell hr x y (by first | assumption | exact hr.zA 0 _ | exact hr.zA 8 _ | exact hr.zA 9 _ | exact hr.zS _ | exact hMz _ | exact hMz1 _ | (unfold zR; omega)) (by first | assumption | exact hr.zA 0 _ | exact hr.zA 8 _ | exact hr.zA 9 _ | exact hr.zS _ | exact hMz _ | exact hMz1 _ | (unfold zR; omega)) hd) (lw_V q2314 q2316 qs47 q117 q2317) yo_X4_isCell rfl rfl rfl (by decide) (by decide) (k2 := 0) (n2 := 0) (by decide) (by decide) (by decide) (by decide) dX4_wall_8 (fun va hv hp hf1 => ?_)
  obtain ⟨rfl, rfl⟩ := hp
  refine v_ifb_ne (pc := 11) (tgt := 20) hO dX4_wall_11 (by decide) (fun c11 => ?_) (fun c11 => ?_)
  · refine v_aload_n (pc := 20) hO dX4_wall_20 rfl ?_
    refine v_iload_n (pc := 21) hO dX4_wall_21 rfl ?_
    refine v_iload_n (pc := 22) hO dX4_wall_22 rfl ?_
    refine v_callV (pc := 23) (b := am) hO cp_X4 hr.ob (m_isHeld hr x y (by first | assumption | exact hr.zA 0 _ | exact hr.zA 8 _ | exact hr.zA 9 _ | exact hr.zS _ | exact hMz _ | exact hMz1 _ | (unfold zR; omega)) (by first | assumption | exact hr.zA 0 _ | exact hr.zA 8 _ | exact hr.zA 9 _ | exact hr.zS _ | exact hMz _ | exact hMz1 _ | (unfold zR; omega)) hB) (lw_V q2483 q2485 qs71 q117 q2486) yo_X4_isHeld rfl rfl rfl (by decide) (by decide) (k2 := 0) (n2 := 0) (by decide) (by decide) (by decide) (by decide) dX4_wall_23 (fun va hv hp hf1 => ?_)
    obtain ⟨rfl, rfl⟩ := hp
    refine v_ifb_eq (pc := 26) (tgt := 32) hO dX4_wall_26 (by decide) (fun c26 => ?_) (fun c26 => ?_)
    · refine v_aload_n (pc := 32) hO dX4_wall_32 rfl ?_
      refine v_iload_n (pc := 33) hO dX4_wall_33 rfl ?_
      refine v_iload_n (pc := 34) hO dX4_wall_34 rfl ?_
      refine v_callV (pc := 35) (b := am) hO cp_X4 hr.ob (m_isGoal hr x y (by first | assumption | exact hr.zA 0 _ | exact hr.zA 8 _ | exact hr.zA 9 _ | exact hr.zS _ | exact hMz _ | exact hMz1 _ | (unfold zR; omega)) (by first | assumption | exact hr.zA 0 _ | exact hr.zA 8 _ | exact hr.zA 9 _ | exact hr.zS _ | exact hMz _ | exact hMz1 _ | (unfold zR; omega)) hB) (lw_V q2487 q2489 qs72 q117 q2490) yo_X4_isGoal rfl rfl rfl (by decide) (by decide) (k2 := 0) (n2 := 0) (by decide) (by decide) (by decide) (by decide) dX4_wall_35 (fun va hv hp hf1 => ?_)
      obtain ⟨rfl, rfl⟩ := hp
      refine v_ifb_eq (pc := 38) (tgt := 44) hO dX4_wall_38 (by decide) (fun c38 => ?_) (fun c38 => ?_)
      · refine v_aload_n (pc := 44) hO dX4_wall_44 rfl ?_
        refine v_callV (pc := 45) (b := am) hO cp_X4 hr.ob (m_record hr hA rows hn0 hn1 hh) (lw_V q2471 q2473 qs70 q117 q2474) yo_X4_record rfl rfl rfl (by decide) (by decide) (k2 := 0) (n2 := 0) (by decide) (by decide) (by decide) (by decide) dX4_wall_45 (fun va hv hp hf1 => ?_)
        obtain ⟨rfl, Hh, hr, hHh⟩ := hp
        rw [rS_sw (by decide)] at hr
        have hwl := wal_in hB (x := x) (y := y) (by omega)
        have hw6 := wal_n hB
        refine v_aload_n (pc := 48) hO dX4_wall_48 rfl ?_
        refine v_getf (pc := 49) (v := sref (ad 0)) hO cp_X4 0 q2125 hr.ob (by decide) rfl dX4_wall_49 ?_
        refine v_iload_n (pc := 52) hO dX4_wall_52 rfl ?_
        refine v_iload_n (pc := 53) hO dX4_wall_53 rfl ?_
        refine v_callS (pc := 54) hO (m_wallAt x y) (lw_S q2322 q2323 q117 q2324) yo_X4_wallAt rfl rfl (by decide) (by decide) (k2 := 0) (n2 := 0) (by decide) (by decide) (by decide) (by decide) dX4_wall_54 (fun va hv hp hf1 => ?_)
        obtain ⟨rfl, rfl⟩ := hp
        refine v_iconst (pc := 57) hO dX4_wall_57 ?_
        refine v_aload_n (pc := 58) hO dX4_wall_58 rfl ?_
        refine v_getf (pc := 59) (v := sref (ad 0)) hO cp_X4 0 q2125 hr.ob (by decide) rfl dX4_wall_59 ?_
        refine v_iload_n (pc := 62) hO dX4_wall_62 rfl ?_
        refine v_iload_n (pc := 63) hO dX4_wall_63 rfl ?_
        refine v_callS (pc := 64) hO (m_wallAt x y) (lw_S q2322 q2323 q117 q2324) yo_X4_wallAt rfl rfl (by decide) (by decide) (k2 := 0) (n2 := 0) (by decide) (by decide) (by decide) (by decide) dX4_wall_64 (fun va hv hp hf1 => ?_)
        obtain ⟨rfl, rfl⟩ := hp
        refine r_iald (pc := 67) (w := M (784 + 12 * y + x)) (L := 3934) hO hr 0 ri_0 rfl rfl (by omega) (by omega) dX4_wall_67 ?_
        refine v_isub (pc := 68) hO dX4_wall_68 ?_
        refine r_iast (pc := 69) (Ar2 := (rA (rA Ar 4 Hh) 0 (zupd M (784 + 12 * y + x) (1 - (M (784 + 12 * y + x)))))) (L := 3934) hO hr hA 0 ri_0 rfl (rA_rA _ _ _ _) (by omega) (by omega) (by first | assumption | exact hr.zA 0 _ | exact hr.zA 8 _ | exact hr.zA 9 _ | exact hr.zS _ | exact hMz _ | exact hMz1 _ | exact zw_R _ | (unfold zR; omega)) dX4_wall_69 (fun h hr => ?_)
        refine v_aload_n (pc := 70) hO dX4_wall_70 rfl ?_
        refine v_getf (pc := 71) (v := sref (ad 0)) hO cp_X4 0 q2125 hr.ob (by decide) rfl dX4_wall_71 ?_
        refine v_bipush (pc := 74) hO dX4_wall_74 (by decide +kernel) ?_
        refine v_dup2 (pc := 76) hO dX4_wall_76 rfl rfl ?_
        refine r_iald (pc := 77) (w := M 6) (L := 3934) hO hr 0 ri_0 rfl (by first | exact (zupd_n (by omega)) | exact (congrFun (rA_s _ _ _) _).trans (zupd_n (by omega))) (by omega) (by omega) dX4_wall_77 ?_
        refine v_iconst (pc := 78) hO dX4_wall_78 ?_
        refine v_aload_n (pc := 79) hO dX4_wall_79 rfl ?_
        refine v_getf (pc := 80) (v := sref (ad 0)) hO cp_X4 0 q2125 hr.ob (by decide) rfl dX4_wall_80 ?_
        refine v_iload_n (pc := 83) hO dX4_wall_83 rfl ?_
        refine v_iload_n (pc := 84) hO dX4_wall_84 rfl ?_
        refine v_callS (pc := 85) hO (m_wallAt x y) (lw_S q2322 q2323 q117 q2324) yo_X4_wallAt rfl rfl (by decide) (by decide) (k2 := 0) (n2 := 0) (by decide) (by decide) (by decide) (by decide) dX4_wall_85 (fun va hv hp hf1 => ?_)
        obtain ⟨rfl, rfl⟩ := hp
        refine r_iald (pc := 88) (w := 1 - (M (784 + 12 * y + x))) (L := 3934) hO hr 0 ri_0 rfl (by first | exact (zupd_s _ _ _) | exact (congrFun (rA_s _ _ _) _).trans (zupd_s _ _ _)) (by omega) (by omega) dX4_wall_88 ?_
        refine v_imul (pc := 89) hO dX4_wall_89 ?_
        refine v_iconst (pc := 90) hO dX4_wall_90 ?_
        refine v_isub (pc := 91) hO dX4_wall_91 ?_
        refine v_iadd (pc := 92) hO dX4_wall_92 ?_
        refine r_iast (pc := 93) (Ar2 := (rA (rA Ar 4 Hh) 0 (zupd (zupd M (784 + 12 * y + x) (1 - (M (784 + 12 * y + x)))) 6 (M 6 + (2 * (1 - (M (784 + 12 * y + x))) - 1))))) (L := 3934) hO hr hA 0 ri_0 rfl (rA_rA _ _ _ _) (by omega) (by omega) (by first | assumption | exact hr.zA 0 _ | exact hr.zA 8 _ | exact hr.zA 9 _ | exact hr.zS _ | exact hMz _ | exact hMz1 _ | exact zw_R _ | (unfold zR; omega)) dX4_wall_93 (fun h hr => ?_)
        refine v_aload_n (pc := 94) hO dX4_wall_94 rfl ?_
        refine v_getf (pc := 95) (v := sref (ad 0)) hO cp_X4 0 q2125 hr.ob (by decide) rfl dX4_wall_95 ?_
        refine v_bipush (pc := 98) hO dX4_wall_98 (by decide +kernel) ?_
        refine r_iald (pc := 100) (w := M 6 + (2 * (1 - (M (784 + 12 * y + x))) - 1)) (L := 3934) hO hr 0 ri_0 rfl (by first | exact (zupd_s _ _ _) | exact (congrFun (rA_s _ _ _) _).trans (zupd_s _ _ _)) (by omega) (by omega) dX4_wall_100 ?_
        exact v_iret hO dX4_wall_101 rfl (Nat.le_of_ble_eq_true rfl) (Nat.le_of_ble_eq_true rfl) (Or.inr (Or.inr (Or.inr ⟨⟨by assumption, by assumption, by assumption⟩, congrArg (fun z => some (Sum.inl z)) (by unfold walM; rw [zupd_s]), Hh, _, hr, scr2_rf _, hHh⟩)))
      · refine v_bipush (pc := 41) hO dX4_wall_41 (by decide +kernel) ?_
        exact v_iret hO dX4_wall_43 rfl (Nat.le_of_ble_eq_true rfl) (Nat.le_of_ble_eq_true rfl) (Or.inr (Or.inr (Or.inl ⟨⟨by assumption, by assumption, by assumption⟩, rfl, hr⟩)))
    · refine v_bipush (pc := 29) hO dX4_wall_29 (by decide +kernel) ?_
      exact v_iret hO dX4_wall_31 rfl (Nat.le_of_ble_eq_true rfl) (Nat.le_of_ble_eq_true rfl) (Or.inr (Or.inl ⟨⟨by assumption, by assumption⟩, rfl, hr⟩))
  · refine v_aload_n (pc := 14) hO dX4_wall_14 rfl ?_
    refine v_iconst (pc := 15) hO dX4_wall_15 ?_
    refine v_callV (pc := 16) (b := am) hO cp_X4 hr.ob (m_raise hr hA 1 (by unfold zR; omega)) (lw_V q2222 q2224 qs34 q117 q2225) yo_X4_raise rfl rfl rfl (by decide) (by decide) (k2 := 0) (n2 := 0) (by decide) (by decide) (by decide) (by decide) dX4_wall_16 (fun va hv hp hf1 => ?_)
    obtain ⟨rfl, hr⟩ := hp
    rw [rS_rS] at hr
    exact v_iret hO dX4_wall_19 rfl (Nat.le_of_ble_eq_true rfl) (Nat.le_of_ble_eq_true rfl) (Or.inl ⟨by assumption, rfl, hr⟩)
theorem yo_X4_movePicket : yOK yX4_movePicket 3 := by unfold yOK; exact ⟨by decide +kernel, by decide +kernel, by decide +kernel⟩
set_option maxRecDepth 100000 in
theorem m_movePicket {G : GT} {h : AH} {am : Nat} {ad : Nat → Nat} {nmf : Int → Option Nat} {S : Nat → Int} {Ar : Nat → Int → Int} {M : Int → Int} (hr : RefAt G h am ad nmf S (rA Ar 0 M)) {A : Nat → Prop} (hA : ∀ q, RA am ad q → A q) (a x y : Int) (za : zR a) (zx : zR x) (zy : zR y) (hB : Bq M) (hT : M 5 ≤ 500) (rows : Int → Int → Int) (hn0 : 0 ≤ S 5) (hn1 : S 5 ≤ 10) (hh : Hst (Ar 4) (S 5) rows) : CC G yX4_movePicket cX4_movePicket 4 (some .int) ({ frames := 4, cells := 0, slots := 0, locals := 77 } : Room) A [sref am, .inl a, .inl x, .inl y] h (fun v h1 => (¬ (inb a 0 (M 3 - 1) ∧ cellM M x y) ∧ v = some (.inl 0) ∧ RefAt G h1 am ad nmf (rS S 6 1) (rA Ar 0 M)) ∨ ((inb a 0 (M 3 - 1) ∧ cellM M x y) ∧ v = some (.inl (if watP (mpkM M a x y) a (M 5) then 1 else 0)) ∧ ∃ Hh Ar2, RefAt G h1 am ad nmf (rS (rS S 5 (recN (S 5))) 6 0) (rA Ar2 0 (mpkM M a x y)) ∧ scr2 Ar2 (rA Ar 4 Hh) ∧ Hst Hh (recN (S 5)) (recR rows (S 5) M))) := by
  refine CC.of (by decide +kernel) [(0, sref am), (1, .inl a), (2, .inl x), (3, .inl y)] rfl (Nat.le_of_ble_eq_true rfl) (fun X hnm hO => ?_)
  have hMz : ∀ z, zR (M z) := fun z => hr.zA 0 z
  have hd := hB.hd
  have h2 := hB.1.2.1
  have h4 := hB.h4
  have h5 := hB.1.2.2.2.1
  have h8 := hB.1.2.2.2.2.1
  have hpics := hB.pics
  have h3 := hpics.1
  have h7 := hB.h7
  have h9m := hB.1.2.2.2.2.2.1
  refine v_aload_n (pc := 0) hO dX4_movePicket_0 rfl ?_
  refine v_iconst (pc := 1) hO dX4_movePicket_1 ?_
  refine r_puti (pc := 2) (S2 := (rS S 6 0)) hO hr hA 6 rn_6 q2131 rfl (by first | assumption | exact hr.zA 0 _ | exact hr.zA 8 _ | exact hr.zA 9 _ | exact hr.zS _ | exact hMz _ | exact hMz1 _ | exact zw_R _ | (unfold zR; omega)) dX4_movePicket_2 (fun h hr => ?_)
  refine v_aload_n (pc := 5) hO dX4_movePicket_5 rfl ?_
  refine v_iload_n (pc := 6) hO dX4_movePicket_6 rfl ?_
  refine v_callV (pc := 7) (b := am) hO cp_X4 hr.ob (m_isPicket hr a (by first | assumption | exact hr.zA 0 _ | exact hr.zA 8 _ | exact hr.zA 9 _ | exact hr.zS _ | exact hMz _ | exact hMz1 _ | (unfold zR; omega)) (by omega)) (lw_V q2260 q2262 qs40 q117 q2263) yo_X4_isPicket rfl rfl rfl (by decide) (by decide) (k2 := 0) (n2 := 0) (by decide) (by decide) (by decide) (by decide) dX4_movePicket_7 (fun va hv hp hf1 => ?_)
  obtain ⟨rfl, rfl⟩ := hp
  refine v_ifb_eq (pc := 10) (tgt := 22) hO dX4_movePicket_10 (by decide) (fun c10 => ?_) (fun c10 => ?_)
  · refine v_aload_n (pc := 22) hO dX4_movePicket_22 rfl ?_
    refine v_iconst (pc := 23) hO dX4_movePicket_23 ?_
    refine v_callV (pc := 24) (b := am) hO cp_X4 hr.ob (m_raise hr hA 1 (by unfold zR; omega)) (lw_V q2222 q2224 qs34 q117 q2225) yo_X4_raise rfl rfl rfl (by decide) (by decide) (k2 := 0) (n2 := 0) (by decide) (by decide) (by decide) (by decide) dX4_movePicket_24 (fun va hv hp hf1 => ?_)
    obtain ⟨rfl, hr⟩ := hp
    rw [rS_rS] at hr
    exact v_iret hO dX4_movePicket_27 rfl (Nat.le_of_ble_eq_true rfl) (Nat.le_of_ble_eq_true rfl) (Or.inl ⟨by omega, rfl, hr⟩)
  · refine v_aload_n (pc := 13) hO dX4_movePicket_13 rfl ?_
    refine v_iload_n (pc := 14) hO dX4_movePicket_14 rfl ?_
    refine v_iload_n (pc := 15) hO dX4_movePicket_15 rfl ?_
    refine v_callV (pc := 16) (b := am) hO cp_X4 hr.ob (m_isCell hr x y (by first | assumption | exact hr.zA 0 _ | exact hr.zA 8 _ | exact hr.zA 9 _ | exact hr.zS _ | exact hMz _ | exact hMz1 _ | (unfold zR; omega)) (by first | assumption | exact hr.zA 0 _ | exact hr.zA 8 _ | exact hr.zA 9 _ | exact hr.zS _ | exact hMz _ | exact hMz1 _ | (unfold zR; omega)) hd) (lw_V q2314 q2316 qs47 q117 q2317) yo_X4_isCell rfl rfl rfl (by decide) (by decide) (k2 := 0) (n2 := 0) (by decide) (by decide) (by decide) (by decide) dX4_movePicket_16 (fun va hv hp hf1 => ?_)
    obtain ⟨rfl, rfl⟩ := hp
    refine v_ifb_ne (pc := 19) (tgt := 28) hO dX4_movePicket_19 (by decide) (fun c19 => ?_) (fun c19 => ?_)
    · refine v_aload_n (pc := 28) hO dX4_movePicket_28 rfl ?_
      refine v_callV (pc := 29) (b := am) hO cp_X4 hr.ob (m_record hr hA rows hn0 hn1 hh) (lw_V q2471 q2473 qs70 q117 q2474) yo_X4_record rfl rfl rfl (by decide) (by decide) (k2 := 0) (n2 := 0) (by decide) (by decide) (by decide) (by decide) dX4_movePicket_29 (fun va hv hp hf1 => ?_)
      obtain ⟨rfl, Hh, hr, hHh⟩ := hp
      rw [rS_sw (by decide)] at hr
      refine v_aload_n (pc := 32) hO dX4_movePicket_32 rfl ?_
      refine v_getf (pc := 33) (v := sref (ad 0)) hO cp_X4 0 q2125 hr.ob (by decide) rfl dX4_movePicket_33 ?_
      refine v_iload_n (pc := 36) hO dX4_movePicket_36 rfl ?_
      refine v_iconst (pc := 37) hO dX4_movePicket_37 ?_
      refine v_callS (pc := 38) hO (m_picketAt a 0) (lw_S q2276 q2277 q117 q2278) yo_X4_picketAt rfl rfl (by decide) (by decide) (k2 := 0) (n2 := 0) (by decide) (by decide) (by decide) (by decide) dX4_movePicket_38 (fun va hv hp hf1 => ?_)
      obtain ⟨rfl, rfl⟩ := hp
      refine v_iload_n (pc := 41) hO dX4_movePicket_41 rfl ?_
      refine r_iast (pc := 42) (Ar2 := (rA (rA Ar 4 Hh) 0 (zupd M (36 + 7 * a + 0) x))) (L := 3934) hO hr hA 0 ri_0 rfl (rA_rA _ _ _ _) (by omega) (by omega) (by first | assumption | exact hr.zA 0 _ | exact hr.zA 8 _ | exact hr.zA 9 _ | exact hr.zS _ | exact hMz _ | exact hMz1 _ | exact zw_R _ | (unfold zR; omega)) dX4_movePicket_42 (fun h hr => ?_)
      refine v_aload_n (pc := 43) hO dX4_movePicket_43 rfl ?_
      refine v_getf (pc := 44) (v := sref (ad 0)) hO cp_X4 0 q2125 hr.ob (by decide) rfl dX4_movePicket_44 ?_
      refine v_iload_n (pc := 47) hO dX4_movePicket_47 rfl ?_
      refine v_iconst (pc := 48) hO dX4_movePicket_48 ?_
      refine v_callS (pc := 49) hO (m_picketAt a 1) (lw_S q2276 q2277 q117 q2278) yo_X4_picketAt rfl rfl (by decide) (by decide) (k2 := 0) (n2 := 0) (by decide) (by decide) (by decide) (by decide) dX4_movePicket_49 (fun va hv hp hf1 => ?_)
      obtain ⟨rfl, rfl⟩ := hp
      refine v_iload_n (pc := 52) hO dX4_movePicket_52 rfl ?_
      refine r_iast (pc := 53) (Ar2 := (rA (rA Ar 4 Hh) 0 (zupd (zupd M (36 + 7 * a + 0) x) (36 + 7 * a + 1) y))) (L := 3934) hO hr hA 0 ri_0 rfl (rA_rA _ _ _ _) (by omega) (by omega) (by first | assumption | exact hr.zA 0 _ | exact hr.zA 8 _ | exact hr.zA 9 _ | exact hr.zS _ | exact hMz _ | exact hMz1 _ | exact zw_R _ | (unfold zR; omega)) dX4_movePicket_53 (fun h hr => ?_)
      obtain ⟨M2, eM2⟩ : ∃ z, z = mpkM M a x y := ⟨_, rfl⟩
      have hr : RefAt G _ am ad nmf (rS (rS S 5 (recN (S 5))) 6 0) (rA (rA Ar 4 Hh) 0 M2) := (by rw [eM2]; exact hr)
      have hpb : picB M2 a := (by rw [eM2]; exact mpk_picB (hpics.2 a (by omega) (by omega)) (by omega) (by omega))
      have hMz1 : ∀ z, zR (M2 z) := fun z => hr.zA 0 z
      have e25 : M2 5 = M 5 := (by rw [eM2]; unfold mpkM; rw [zupd_n (by omega), zupd_n (by omega)])
      refine v_aload_n (pc := 54) hO dX4_movePicket_54 rfl ?_
      refine v_iload_n (pc := 55) hO dX4_movePicket_55 rfl ?_
      refine v_aload_n (pc := 56) hO dX4_movePicket_56 rfl ?_
      refine v_callV (pc := 57) (b := am) hO cp_X4 hr.ob (m_turnNow hr) (lw_V q2264 q2266 qs41 q117 q2267) yo_X4_turnNow rfl rfl rfl (by decide) (by decide) (k2 := 0) (n2 := 0) (by decide) (by decide) (by decide) (by decide) dX4_movePicket_57 (fun va hv hp hf1 => ?_)
      obtain ⟨rfl, rfl⟩ := hp
      refine v_callV (pc := 60) (b := am) hO cp_X4 hr.ob (m_watches hr a (M2 5) (by omega) (by omega) (by omega) (by first | assumption | exact hr.zA 0 _ | exact hr.zA 8 _ | exact hr.zA 9 _ | exact hr.zS _ | exact hMz _ | exact hMz1 _ | (unfold zR; omega)) hpb) (lw_V q2268 q2270 qs42 q117 q2271) yo_X4_watches rfl rfl rfl (by decide) (by decide) (k2 := 0) (n2 := 0) (by decide) (by decide) (by decide) (by decide) dX4_movePicket_60 (fun va hv hp hf1 => ?_)
      obtain ⟨rfl, rfl⟩ := hp
      refine v_ifb_eq (pc := 63) (tgt := 70) hO dX4_movePicket_63 (by decide) (fun c63 => ?_) (fun c63 => ?_)
      · refine v_iconst (pc := 70) hO dX4_movePicket_70 ?_
        exact v_iret hO dX4_movePicket_71 rfl (Nat.le_of_ble_eq_true rfl) (Nat.le_of_ble_eq_true rfl) (Or.inr ⟨by omega, congrArg (fun z => some (Sum.inl z)) (by rw [if_neg (show ¬ watP (mpkM M a x y) a (M 5) by rw [← eM2, ← e25]; assumption)]), Hh, _, (by rw [← eM2]; exact hr), scr2_rf _, hHh⟩)
      · refine v_iconst (pc := 66) hO dX4_movePicket_66 ?_
        refine v_goto (pc := 67) (tgt := 71) hO dX4_movePicket_67 (by decide) ?_
        exact v_iret hO dX4_movePicket_71 rfl (Nat.le_of_ble_eq_true rfl) (Nat.le_of_ble_eq_true rfl) (Or.inr ⟨by omega, congrArg (fun z => some (Sum.inl z)) (by rw [if_pos (show watP (mpkM M a x y) a (M 5) by rw [← eM2, ← e25]; assumption)]), Hh, _, (by rw [← eM2]; exact hr), scr2_rf _, hHh⟩)
    · refine v_aload_n (pc := 22) hO dX4_movePicket_22 rfl ?_
      refine v_iconst (pc := 23) hO dX4_movePicket_23 ?_
      refine v_callV (pc := 24) (b := am) hO cp_X4 hr.ob (m_raise hr hA 1 (by unfold zR; omega)) (lw_V q2222 q2224 qs34 q117 q2225) yo_X4_raise rfl rfl rfl (by decide) (by decide) (k2 := 0) (n2 := 0) (by decide) (by decide) (by decide) (by decide) dX4_movePicket_24 (fun va hv hp hf1 => ?_)
      obtain ⟨rfl, hr⟩ := hp
      rw [rS_rS] at hr
      exact v_iret hO dX4_movePicket_27 rfl (Nat.le_of_ble_eq_true rfl) (Nat.le_of_ble_eq_true rfl) (Or.inl ⟨by omega, rfl, hr⟩)
theorem yo_X4_movePlan : yOK yX4_movePlan 2 := by unfold yOK; exact ⟨by decide +kernel, by decide +kernel, by decide +kernel⟩
set_option maxRecDepth 100000 in
theorem m_movePlan {G : GT} {h : AH} {am : Nat} {ad : Nat → Nat} {nmf : Int → Option Nat} {S : Nat → Int} {Ar : Nat → Int → Int} {M : Int → Int} (hr : RefAt G h am ad nmf S (rA Ar 0 M)) {A : Nat → Prop} (hA : ∀ q, RA am ad q → A q) (a t : Int) (za : zR a) (zt : zR t) (hB : Bq M) (hT : M 5 ≤ 500) (rows : Int → Int → Int) (hn0 : 0 ≤ S 5) (hn1 : S 5 ≤ 10) (hh : Hst (Ar 4) (S 5) rows) : CC G yX4_movePlan cX4_movePlan 4 (some .int) ({ frames := 3, cells := 0, slots := 0, locals := 57 } : Room) A [sref am, .inl a, .inl t] h (fun v h1 => (¬ inb a 0 (M 8 - 1) ∧ v = some (.inl 0) ∧ RefAt G h1 am ad nmf (rS S 6 1) (rA Ar 0 M)) ∨ ((inb a 0 (M 8 - 1) ∧ ¬ inb t (M 5) 499) ∧ v = some (.inl 0) ∧ RefAt G h1 am ad nmf (rS S 6 2) (rA Ar 0 M)) ∨ (((inb a 0 (M 8 - 1) ∧ inb t (M 5) 499) ∧ M (464 + 4 * a + 3) < M 5) ∧ v = some (.inl (-2)) ∧ RefAt G h1 am ad nmf (rS S 6 0) (rA Ar 0 M)) ∨ (((inb a 0 (M 8 - 1) ∧ inb t (M 5) 499) ∧ M (464 + 4 * a + 3) ≥ M 5) ∧ v = some (.inl (M (464 + 4 * a + 3))) ∧ ∃ Hh Ar2, RefAt G h1 am ad nmf (rS (rS S 5 (recN (S 5))) 6 0) (rA Ar2 0 (zupd M (464 + 4 * a + 3) t)) ∧ scr2 Ar2 (rA Ar 4 Hh) ∧ Hst Hh (recN (S 5)) (recR rows (S 5) M))) := by
  refine CC.of (by decide +kernel) [(0, sref am), (1, .inl a), (2, .inl t)] rfl (Nat.le_of_ble_eq_true rfl) (fun X hnm hO => ?_)
  have hMz : ∀ z, zR (M z) := fun z => hr.zA 0 z
  have hd := hB.hd
  have h2 := hB.1.2.1
  have h4 := hB.h4
  have h5 := hB.1.2.2.2.1
  have h8 := hB.1.2.2.2.2.1
  have hpics := hB.pics
  have h3 := hpics.1
  have h7 := hB.h7
  have h9m := hB.1.2.2.2.2.2.1
  refine v_aload_n (pc := 0) hO dX4_movePlan_0 rfl ?_
  refine v_aload_n (pc := 1) hO dX4_movePlan_1 rfl ?_
  refine v_iload_n (pc := 2) hO dX4_movePlan_2 rfl ?_
  refine v_callV (pc := 3) (b := am) hO cp_X4 hr.ob (m_isPlan hr a (by first | assumption | exact hr.zA 0 _ | exact hr.zA 8 _ | exact hr.zA 9 _ | exact hr.zS _ | exact hMz _ | exact hMz1 _ | (unfold zR; omega)) (by omega)) (lw_V q2291 q2293 qs45 q117 q2294) yo_X4_isPlan rfl rfl rfl (by decide) (by decide) (k2 := 0) (n2 := 0) (by decide) (by decide) (by decide) (by decide) dX4_movePlan_3 (fun va hv hp hf1 => ?_)
  obtain ⟨rfl, rfl⟩ := hp
  refine v_ifb_ne (pc := 6) (tgt := 13) hO dX4_movePlan_6 (by decide) (fun c6 => ?_) (fun c6 => ?_)
  · refine v_iload_n (pc := 13) hO dX4_movePlan_13 rfl ?_
    refine v_aload_n (pc := 14) hO dX4_movePlan_14 rfl ?_
    refine v_callV (pc := 15) (b := am) hO cp_X4 hr.ob (m_turnNow hr) (lw_V q2264 q2266 qs41 q117 q2267) yo_X4_turnNow rfl rfl rfl (by decide) (by decide) (k2 := 0) (n2 := 0) (by decide) (by decide) (by decide) (by decide) dX4_movePlan_15 (fun va hv hp hf1 => ?_)
    obtain ⟨rfl, rfl⟩ := hp
    refine v_sipush (pc := 18) hO dX4_movePlan_18 (by decide +kernel) ?_
    refine v_callS (pc := 21) hO (m_inRange t (M 5) 499 (by first | assumption | exact hr.zA 0 _ | exact hr.zA 8 _ | exact hr.zA 9 _ | exact hr.zS _ | exact hMz _ | exact hMz1 _ | (unfold zR; omega)) (by first | assumption | exact hr.zA 0 _ | exact hr.zA 8 _ | exact hr.zA 9 _ | exact hr.zS _ | exact hMz _ | exact hMz1 _ | (unfold zR; omega)) (by first | assumption | exact hr.zA 0 _ | exact hr.zA 8 _ | exact hr.zA 9 _ | exact hr.zS _ | exact hMz _ | exact hMz1 _ | (unfold zR; omega))) (lw_S q2219 q2220 q117 q2221) yo_X4_inRange rfl rfl (by decide) (by decide) (k2 := 0) (n2 := 0) (by decide) (by decide) (by decide) (by decide) dX4_movePlan_21 (fun va hv hp hf1 => ?_)
    obtain ⟨rfl, rfl⟩ := hp
    refine v_ifb_eq (pc := 24) (tgt := 31) hO dX4_movePlan_24 (by decide) (fun c24 => ?_) (fun c24 => ?_)
    · refine v_iconst (pc := 31) hO dX4_movePlan_31 ?_
      refine r_puti (pc := 32) (S2 := (rS S 6 2)) hO hr hA 6 rn_6 q2131 rfl (by first | assumption | exact hr.zA 0 _ | exact hr.zA 8 _ | exact hr.zA 9 _ | exact hr.zS _ | exact hMz _ | exact hMz1 _ | exact zw_R _ | (unfold zR; omega)) dX4_movePlan_32 (fun h hr => ?_)
      refine v_aload_n (pc := 35) hO dX4_movePlan_35 rfl ?_
      refine v_getf (pc := 36) (v := .inl 2) hO cp_X4 6 q2131 hr.ob (by decide) rfl dX4_movePlan_36 ?_
      refine v_if_eq (pc := 39) (tgt := 44) hO dX4_movePlan_39 (by decide) (by unfold zR; omega) (fun c39 => absurd c39 (by omega)) (fun c39 => ?_)
      refine v_iconst (pc := 42) hO dX4_movePlan_42 ?_
      exact v_iret hO dX4_movePlan_43 rfl (Nat.le_of_ble_eq_true rfl) (Nat.le_of_ble_eq_true rfl) (Or.inr (Or.inl ⟨by omega, rfl, hr⟩))
    · refine v_iconst (pc := 27) hO dX4_movePlan_27 ?_
      refine v_goto (pc := 28) (tgt := 32) hO dX4_movePlan_28 (by decide) ?_
      refine r_puti (pc := 32) (S2 := (rS S 6 0)) hO hr hA 6 rn_6 q2131 rfl (by first | assumption | exact hr.zA 0 _ | exact hr.zA 8 _ | exact hr.zA 9 _ | exact hr.zS _ | exact hMz _ | exact hMz1 _ | exact zw_R _ | (unfold zR; omega)) dX4_movePlan_32 (fun h hr => ?_)
      refine v_aload_n (pc := 35) hO dX4_movePlan_35 rfl ?_
      refine v_getf (pc := 36) (v := .inl 0) hO cp_X4 6 q2131 hr.ob (by decide) rfl dX4_movePlan_36 ?_
      refine v_if_eq (pc := 39) (tgt := 44) hO dX4_movePlan_39 (by decide) (by unfold zR; omega) (fun c39 => ?_) (fun c39 => absurd c39 (by omega))
      refine v_aload_n (pc := 44) hO dX4_movePlan_44 rfl ?_
      refine v_getf (pc := 45) (v := sref (ad 0)) hO cp_X4 0 q2125 hr.ob (by decide) rfl dX4_movePlan_45 ?_
      refine v_iload_n (pc := 48) hO dX4_movePlan_48 rfl ?_
      refine v_iconst (pc := 49) hO dX4_movePlan_49 ?_
      refine v_callS (pc := 50) hO (m_planAt a 3) (lw_S q2295 q2296 q117 q2297) yo_X4_planAt rfl rfl (by decide) (by decide) (k2 := 0) (n2 := 0) (by decide) (by decide) (by decide) (by decide) dX4_movePlan_50 (fun va hv hp hf1 => ?_)
      obtain ⟨rfl, rfl⟩ := hp
      refine r_iald (pc := 53) (w := M (464 + 4 * a + 3)) (L := 3934) hO hr 0 ri_0 rfl rfl (by omega) (by omega) dX4_movePlan_53 ?_
      refine v_istore_n (pc := 54) hO (lv' := [(3, .inl (M (464 + 4 * a + 3))), (0, sref am), (1, .inl a), (2, .inl t)]) dX4_movePlan_54 (by decide) rfl ?_
      refine v_iload_n (pc := 55) hO dX4_movePlan_55 rfl ?_
      refine v_aload_n (pc := 56) hO dX4_movePlan_56 rfl ?_
      refine v_callV (pc := 57) (b := am) hO cp_X4 hr.ob (m_turnNow hr) (lw_V q2264 q2266 qs41 q117 q2267) yo_X4_turnNow rfl rfl rfl (by decide) (by decide) (k2 := 0) (n2 := 0) (by decide) (by decide) (by decide) (by decide) dX4_movePlan_57 (fun va hv hp hf1 => ?_)
      obtain ⟨rfl, rfl⟩ := hp
      refine v_icmp_ge (pc := 60) (tgt := 66) hO dX4_movePlan_60 (by decide) (by first | assumption | exact hr.zA 0 _ | exact hr.zA 8 _ | exact hr.zA 9 _ | exact hr.zS _ | exact hMz _ | exact hMz1 _ | exact zw_R _ | (unfold zR; omega)) (by first | assumption | exact hr.zA 0 _ | exact hr.zA 8 _ | exact hr.zA 9 _ | exact hr.zS _ | exact hMz _ | exact hMz1 _ | exact zw_R _ | (unfold zR; omega)) (fun c60 => ?_) (fun c60 => ?_)
      · refine v_aload_n (pc := 66) hO dX4_movePlan_66 rfl ?_
        refine v_callV (pc := 67) (b := am) hO cp_X4 hr.ob (m_record hr hA rows hn0 hn1 hh) (lw_V q2471 q2473 qs70 q117 q2474) yo_X4_record rfl rfl rfl (by decide) (by decide) (k2 := 0) (n2 := 0) (by decide) (by decide) (by decide) (by decide) dX4_movePlan_67 (fun va hv hp hf1 => ?_)
        obtain ⟨rfl, Hh, hr, hHh⟩ := hp
        rw [rS_sw (by decide)] at hr
        refine v_aload_n (pc := 70) hO dX4_movePlan_70 rfl ?_
        refine v_getf (pc := 71) (v := sref (ad 0)) hO cp_X4 0 q2125 hr.ob (by decide) rfl dX4_movePlan_71 ?_
        refine v_iload_n (pc := 74) hO dX4_movePlan_74 rfl ?_
        refine v_iconst (pc := 75) hO dX4_movePlan_75 ?_
        refine v_callS (pc := 76) hO (m_planAt a 3) (lw_S q2295 q2296 q117 q2297) yo_X4_planAt rfl rfl (by decide) (by decide) (k2 := 0) (n2 := 0) (by decide) (by decide) (by decide) (by decide) dX4_movePlan_76 (fun va hv hp hf1 => ?_)
        obtain ⟨rfl, rfl⟩ := hp
        refine v_iload_n (pc := 79) hO dX4_movePlan_79 rfl ?_
        refine r_iast (pc := 80) (Ar2 := (rA (rA Ar 4 Hh) 0 (zupd M (464 + 4 * a + 3) t))) (L := 3934) hO hr hA 0 ri_0 rfl (rA_rA _ _ _ _) (by omega) (by omega) (by first | assumption | exact hr.zA 0 _ | exact hr.zA 8 _ | exact hr.zA 9 _ | exact hr.zS _ | exact hMz _ | exact hMz1 _ | exact zw_R _ | (unfold zR; omega)) dX4_movePlan_80 (fun h hr => ?_)
        refine v_iload_n (pc := 81) hO dX4_movePlan_81 rfl ?_
        exact v_iret hO dX4_movePlan_82 rfl (Nat.le_of_ble_eq_true rfl) (Nat.le_of_ble_eq_true rfl) (Or.inr (Or.inr (Or.inr ⟨by omega, rfl, Hh, _, hr, scr2_rf _, hHh⟩)))
      · refine v_bipush (pc := 63) hO dX4_movePlan_63 (by decide +kernel) ?_
        exact v_iret hO dX4_movePlan_65 rfl (Nat.le_of_ble_eq_true rfl) (Nat.le_of_ble_eq_true rfl) (Or.inr (Or.inr (Or.inl ⟨by omega, rfl, hr⟩)))
  · refine v_iconst (pc := 9) hO dX4_movePlan_9 ?_
    refine v_goto (pc := 10) (tgt := 32) hO dX4_movePlan_10 (by decide) ?_
    refine r_puti (pc := 32) (S2 := (rS S 6 1)) hO hr hA 6 rn_6 q2131 rfl (by first | assumption | exact hr.zA 0 _ | exact hr.zA 8 _ | exact hr.zA 9 _ | exact hr.zS _ | exact hMz _ | exact hMz1 _ | exact zw_R _ | (unfold zR; omega)) dX4_movePlan_32 (fun h hr => ?_)
    refine v_aload_n (pc := 35) hO dX4_movePlan_35 rfl ?_
    refine v_getf (pc := 36) (v := .inl 1) hO cp_X4 6 q2131 hr.ob (by decide) rfl dX4_movePlan_36 ?_
    refine v_if_eq (pc := 39) (tgt := 44) hO dX4_movePlan_39 (by decide) (by unfold zR; omega) (fun c39 => absurd c39 (by omega)) (fun c39 => ?_)
    refine v_iconst (pc := 42) hO dX4_movePlan_42 ?_
    exact v_iret hO dX4_movePlan_43 rfl (Nat.le_of_ble_eq_true rfl) (Nat.le_of_ble_eq_true rfl) (Or.inl ⟨by omega, rfl, hr⟩)
theorem yo_X4_setPatience : yOK yX4_setPatience 1 := by unfold yOK; exact ⟨by decide +kernel, by decide +kernel, by decide +kernel⟩
set_option maxRecDepth 100000 in
theorem m_setPatience {G : GT} {h : AH} {am : Nat} {ad : Nat → Nat} {nmf : Int → Option Nat} {S : Nat → Int} {Ar : Nat → Int → Int} {M : Int → Int} (hr : RefAt G h am ad nmf S (rA Ar 0 M)) {A : Nat → Prop} (hA : ∀ q, RA am ad q → A q) (p : Int) (zp : zR p) (hB : Bq M) (hT : M 5 ≤ 500) (rows : Int → Int → Int) (hn0 : 0 ≤ S 5) (hn1 : S 5 ≤ 10) (hh : Hst (Ar 4) (S 5) rows) : CC G yX4_setPatience cX4_setPatience 3 (some .int) ({ frames := 3, cells := 0, slots := 0, locals := 57 } : Room) A [sref am, .inl p] h (fun v h1 => (¬ inb p 1 30 ∧ v = some (.inl 0) ∧ RefAt G h1 am ad nmf (rS S 6 1) (rA Ar 0 M)) ∨ (inb p 1 30 ∧ v = some (.inl (M 9)) ∧ ∃ Hh Ar2, RefAt G h1 am ad nmf (rS (rS S 5 (recN (S 5))) 6 0) (rA Ar2 0 (zupd M 9 p)) ∧ scr2 Ar2 (rA Ar 4 Hh) ∧ Hst Hh (recN (S 5)) (recR rows (S 5) M))) := by
  refine CC.of (by decide +kernel) [(0, sref am), (1, .inl p)] rfl (Nat.le_of_ble_eq_true rfl) (fun X hnm hO => ?_)
  have hMz : ∀ z, zR (M z) := fun z => hr.zA 0 z
  have hd := hB.hd
  have h2 := hB.1.2.1
  have h4 := hB.h4
  have h5 := hB.1.2.2.2.1
  have h8 := hB.1.2.2.2.2.1
  have hpics := hB.pics
  have h3 := hpics.1
  have h7 := hB.h7
  have h9m := hB.1.2.2.2.2.2.1
  refine v_aload_n (pc := 0) hO dX4_setPatience_0 rfl ?_
  refine v_iconst (pc := 1) hO dX4_setPatience_1 ?_
  refine r_puti (pc := 2) (S2 := (rS S 6 0)) hO hr hA 6 rn_6 q2131 rfl (by first | assumption | exact hr.zA 0 _ | exact hr.zA 8 _ | exact hr.zA 9 _ | exact hr.zS _ | exact hMz _ | exact hMz1 _ | exact zw_R _ | (unfold zR; omega)) dX4_setPatience_2 (fun h hr => ?_)
  refine v_iload_n (pc := 5) hO dX4_setPatience_5 rfl ?_
  refine v_iconst (pc := 6) hO dX4_setPatience_6 ?_
  refine v_bipush (pc := 7) hO dX4_setPatience_7 (by decide +kernel) ?_
  refine v_callS (pc := 9) hO (m_inRange p 1 30 (by first | assumption | exact hr.zA 0 _ | exact hr.zA 8 _ | exact hr.zA 9 _ | exact hr.zS _ | exact hMz _ | exact hMz1 _ | (unfold zR; omega)) (by first | assumption | exact hr.zA 0 _ | exact hr.zA 8 _ | exact hr.zA 9 _ | exact hr.zS _ | exact hMz _ | exact hMz1 _ | (unfold zR; omega)) (by first | assumption | exact hr.zA 0 _ | exact hr.zA 8 _ | exact hr.zA 9 _ | exact hr.zS _ | exact hMz _ | exact hMz1 _ | (unfold zR; omega))) (lw_S q2219 q2220 q117 q2221) yo_X4_inRange rfl rfl (by decide) (by decide) (k2 := 0) (n2 := 0) (by decide) (by decide) (by decide) (by decide) dX4_setPatience_9 (fun va hv hp hf1 => ?_)
  obtain ⟨rfl, rfl⟩ := hp
  refine v_ifb_ne (pc := 12) (tgt := 21) hO dX4_setPatience_12 (by decide) (fun c12 => ?_) (fun c12 => ?_)
  · refine v_aload_n (pc := 21) hO dX4_setPatience_21 rfl ?_
    refine v_callV (pc := 22) (b := am) hO cp_X4 hr.ob (m_record hr hA rows hn0 hn1 hh) (lw_V q2471 q2473 qs70 q117 q2474) yo_X4_record rfl rfl rfl (by decide) (by decide) (k2 := 0) (n2 := 0) (by decide) (by decide) (by decide) (by decide) dX4_setPatience_22 (fun va hv hp hf1 => ?_)
    obtain ⟨rfl, Hh, hr, hHh⟩ := hp
    rw [rS_sw (by decide)] at hr
    refine v_aload_n (pc := 25) hO dX4_setPatience_25 rfl ?_
    refine v_getf (pc := 26) (v := sref (ad 0)) hO cp_X4 0 q2125 hr.ob (by decide) rfl dX4_setPatience_26 ?_
    refine v_bipush (pc := 29) hO dX4_setPatience_29 (by decide +kernel) ?_
    refine r_iald (pc := 31) (w := M 9) (L := 3934) hO hr 0 ri_0 rfl rfl (by omega) (by omega) dX4_setPatience_31 ?_
    refine v_istore_n (pc := 32) hO (lv' := [(2, .inl (M 9)), (0, sref am), (1, .inl p)]) dX4_setPatience_32 (by decide) rfl ?_
    refine v_aload_n (pc := 33) hO dX4_setPatience_33 rfl ?_
    refine v_getf (pc := 34) (v := sref (ad 0)) hO cp_X4 0 q2125 hr.ob (by decide) rfl dX4_setPatience_34 ?_
    refine v_bipush (pc := 37) hO dX4_setPatience_37 (by decide +kernel) ?_
    refine v_iload_n (pc := 39) hO dX4_setPatience_39 rfl ?_
    refine r_iast (pc := 40) (Ar2 := (rA (rA Ar 4 Hh) 0 (zupd M 9 p))) (L := 3934) hO hr hA 0 ri_0 rfl (rA_rA _ _ _ _) (by omega) (by omega) (by first | assumption | exact hr.zA 0 _ | exact hr.zA 8 _ | exact hr.zA 9 _ | exact hr.zS _ | exact hMz _ | exact hMz1 _ | exact zw_R _ | (unfold zR; omega)) dX4_setPatience_40 (fun h hr => ?_)
    refine v_iload_n (pc := 41) hO dX4_setPatience_41 rfl ?_
    exact v_iret hO dX4_setPatience_42 rfl (Nat.le_of_ble_eq_true rfl) (Nat.le_of_ble_eq_true rfl) (Or.inr ⟨by omega, rfl, Hh, _, hr, scr2_rf _, hHh⟩)
  · refine v_aload_n (pc := 15) hO dX4_setPatience_15 rfl ?_
    refine v_iconst (pc := 16) hO dX4_setPatience_16 ?_
    refine v_callV (pc := 17) (b := am) hO cp_X4 hr.ob (m_raise hr hA 1 (by unfold zR; omega)) (lw_V q2222 q2224 qs34 q117 q2225) yo_X4_raise rfl rfl rfl (by decide) (by decide) (k2 := 0) (n2 := 0) (by decide) (by decide) (by decide) (by decide) dX4_setPatience_17 (fun va hv hp hf1 => ?_)
    obtain ⟨rfl, hr⟩ := hp
    rw [rS_rS] at hr
    exact v_iret hO dX4_setPatience_20 rfl (Nat.le_of_ble_eq_true rfl) (Nat.le_of_ble_eq_true rfl) (Or.inl ⟨by omega, rfl, hr⟩)
