/-! THE REFERENCE: the buffer is fed; the draft -/
set_option maxRecDepth 100000
theorem rS_13 (S : Nat → Int) : rS (rS S 6 0) 13 (S 13 + 0) = rS S 6 0 := by
  rw [Int.add_zero]
  exact rS_id (rS S 6 0) 13
abbrev fedF (B : Int → Int) (n a b c d e k : Int) (z : Int) : Int := if n ≤ z ∧ z < n + k then bytI (wrdI a b c d e (z - n)) (z - n) else B z
abbrev dhlP (D : Int → Int) (x y u : Int) : Bool := decide (D (12 + 4 * u + 0) = x ∧ D (12 + 4 * u + 1) = y)
def dhlM (D : Int → Int) (x y : Int) : Bool := decide (D 10 = x ∧ D 11 = y) || anyI (dhlP D x y) (D 2 - 0).toNat 0
theorem yo_X4_feed : yOK yX4_feed 5 := by unfold yOK; exact ⟨by decide +kernel, by decide +kernel, by decide +kernel⟩
set_option maxRecDepth 100000 in
theorem m_feed {G : GT} {h : AH} {am : Nat} {ad : Nat → Nat} {nmf : Int → Option Nat} {S : Nat → Int} {Ar : Nat → Int → Int} {M : Int → Int} (hr : RefAt G h am ad nmf S (rA Ar 0 M)) {A : Nat → Prop} (hA : ∀ q, RA am ad q → A q) (a b c d e : Int) (hl : inb (S 13) 0 600) : CC G yX4_feed cX4_feed 8 (some .int) ({ frames := 1, cells := 0, slots := 0, locals := 12 } : Room) A [sref am, .inl a, .inl b, .inl c, .inl d, .inl e] h (fun v h1 => (S 13 + 20 > 600 ∧ v = some (.inl (-1)) ∧ RefAt G h1 am ad nmf (rS S 6 0) (rA Ar 0 M)) ∨ (S 13 + 20 ≤ 600 ∧ v = some (.inl (S 13 + 20)) ∧ ∃ F, RefAt G h1 am ad nmf (rS (rS S 6 0) 13 (S 13 + 20)) (rA (rA Ar 12 F) 0 M) ∧ ∀ z, F z = fedF (Ar 12) (S 13) a b c d e 20 z)) := by
  refine CC.of (by decide +kernel) [(0, sref am), (1, .inl a), (2, .inl b), (3, .inl c), (4, .inl d), (5, .inl e)] rfl (Nat.le_of_ble_eq_true rfl) (fun X hnm hO => ?_)
  have hMz : ∀ z, zR (M z) := fun z => hr.zA 0 z
  refine v_aload_n (pc := 0) hO dX4_feed_0 rfl ?_
  refine v_iconst (pc := 1) hO dX4_feed_1 ?_
  refine r_puti (pc := 2) (S2 := (rS S 6 0)) hO hr hA 6 rn_6 q2131 rfl (by first | assumption | exact hMz _ | exact int32_R _ | (unfold zR; omega)) dX4_feed_2 (fun h hr => ?_)
  refine v_aload_n (pc := 5) hO dX4_feed_5 rfl ?_
  refine v_getf (pc := 6) (v := .inl (S 13)) hO cp_X4 13 q2138 hr.ob (by decide) rfl dX4_feed_6 ?_
  refine v_bipush (pc := 9) hO dX4_feed_9 (by decide +kernel) ?_
  refine v_iadd (pc := 11) hO dX4_feed_11 ?_
  refine v_sipush (pc := 12) hO dX4_feed_12 (by decide +kernel) ?_
  refine v_icmp_le (pc := 15) (tgt := 20) hO dX4_feed_15 (by decide) (by first | assumption | exact hMz _ | exact int32_R _ | (unfold zR; omega)) (by first | assumption | exact hMz _ | exact int32_R _ | (unfold zR; omega)) (fun c15 => ?_) (fun c15 => ?_)
  · refine v_iconst (pc := 20) hO dX4_feed_20 ?_
    refine v_istore (pc := 21) hO (lv' := [(6, .inl 0), (0, sref am), (1, .inl a), (2, .inl b), (3, .inl c), (4, .inl d), (5, .inl e)]) dX4_feed_21 (by decide) rfl ?_
    refine v_pick (lv2 := [(0, sref am), (1, .inl a), (2, .inl b), (3, .inl c), (4, .inl d), (5, .inl e), (6, .inl 0)]) [1, 2, 3, 4, 5, 6, 0] rfl ?_
    refine v_loop (σ := Int × (Int → Int) × AH) (fun (k, F1, hL) => 0 ≤ k ∧ k ≤ 20 ∧ RefAt G hL am ad nmf (rS (rS S 6 0) 13 (S 13 + k)) (rA (rA Ar 12 F1) 0 M) ∧ (∀ z, F1 z = fedF (Ar 12) (S 13) a b c d e k z)) (fun (k, F1, hL) => (20 - k).toNat) (fun (k, F1, hL) => hL) (fun (k, F1, hL) => [(0, sref am), (1, .inl a), (2, .inl b), (3, .inl c), (4, .inl d), (5, .inl e), (6, .inl k)]) (0, Ar 12, _) ⟨Int.le_refl _, (by decide), (by rw [rS_13, rA_id]; exact hr), (fun z => (if_neg (by omega)).symm)⟩ ?_
    rintro ⟨k, F1, hL⟩ ⟨hk0, hk1, hr, hF⟩ ih
    show VV X G A _ _ _ hL _ _ 23 [(0, sref am), (1, .inl a), (2, .inl b), (3, .inl c), (4, .inl d), (5, .inl e), (6, .inl k)] []
    refine v_iload (pc := 23) hO dX4_feed_23 rfl ?_
    refine v_bipush (pc := 25) hO dX4_feed_25 (by decide +kernel) ?_
    refine v_icmp_ge (pc := 27) (tgt := 120) hO dX4_feed_27 (by decide) (by first | assumption | exact hMz _ | exact int32_R _ | (unfold zR; omega)) (by first | assumption | exact hMz _ | exact int32_R _ | (unfold zR; omega)) (fun c27 => ?_) (fun c27 => ?_)
    · refine v_aload_n (pc := 120) hO dX4_feed_120 rfl ?_
      refine v_getf (pc := 121) (v := .inl (S 13 + k)) hO cp_X4 13 q2138 hr.ob (by decide) rfl dX4_feed_121 ?_
      exact v_iret hO dX4_feed_124 rfl (Nat.le_of_ble_eq_true rfl) (Nat.le_of_ble_eq_true rfl) (Or.inr (by have e9 : k = 20 := (by omega); subst e9; exact ⟨by omega, rfl, F1, hr, hF⟩))
    · refine v_iload (pc := 30) hO dX4_feed_30 rfl ?_
      refine v_iconst (pc := 32) hO dX4_feed_32 ?_
      refine v_icmp_ge (pc := 33) (tgt := 40) hO dX4_feed_33 (by decide) (by first | assumption | exact hMz _ | exact int32_R _ | (unfold zR; omega)) (by first | assumption | exact hMz _ | exact int32_R _ | (unfold zR; omega)) (fun c33 => ?_) (fun c33 => ?_)
      · refine v_iload (pc := 40) hO dX4_feed_40 rfl ?_
        refine v_bipush (pc := 42) hO dX4_feed_42 (by decide +kernel) ?_
        refine v_icmp_ge (pc := 44) (tgt := 51) hO dX4_feed_44 (by decide) (by first | assumption | exact hMz _ | exact int32_R _ | (unfold zR; omega)) (by first | assumption | exact hMz _ | exact int32_R _ | (unfold zR; omega)) (fun c44 => ?_) (fun c44 => ?_)
        · refine v_iload (pc := 51) hO dX4_feed_51 rfl ?_
          refine v_bipush (pc := 53) hO dX4_feed_53 (by decide +kernel) ?_
          refine v_icmp_ge (pc := 55) (tgt := 62) hO dX4_feed_55 (by decide) (by first | assumption | exact hMz _ | exact int32_R _ | (unfold zR; omega)) (by first | assumption | exact hMz _ | exact int32_R _ | (unfold zR; omega)) (fun c55 => ?_) (fun c55 => ?_)
          · refine v_iload (pc := 62) hO dX4_feed_62 rfl ?_
            refine v_bipush (pc := 64) hO dX4_feed_64 (by decide +kernel) ?_
            refine v_icmp_ge (pc := 66) (tgt := 74) hO dX4_feed_66 (by decide) (by first | assumption | exact hMz _ | exact int32_R _ | (unfold zR; omega)) (by first | assumption | exact hMz _ | exact int32_R _ | (unfold zR; omega)) (fun c66 => ?_) (fun c66 => ?_)
            · refine v_iload (pc := 74) hO dX4_feed_74 rfl ?_
              refine v_istore (pc := 76) hO (lv' := [(7, .inl e), (0, sref am), (1, .inl a), (2, .inl b), (3, .inl c), (4, .inl d), (5, .inl e), (6, .inl k)]) dX4_feed_76 (by decide) rfl ?_
              refine v_aload_n (pc := 78) hO dX4_feed_78 rfl ?_
              refine v_getf (pc := 79) (v := sref (ad 12)) hO cp_X4 12 q2137 hr.ob (by decide) rfl dX4_feed_79 ?_
              refine v_aload_n (pc := 82) hO dX4_feed_82 rfl ?_
              refine v_getf (pc := 83) (v := .inl (S 13 + k)) hO cp_X4 13 q2138 hr.ob (by decide) rfl dX4_feed_83 ?_
              refine v_iload (pc := 86) hO dX4_feed_86 rfl ?_
              refine v_bipush (pc := 88) hO dX4_feed_88 (by decide +kernel) ?_
              refine v_bipush (pc := 90) hO dX4_feed_90 (by decide +kernel) ?_
              refine v_iload (pc := 92) hO dX4_feed_92 rfl ?_
              refine v_iconst (pc := 94) hO dX4_feed_94 ?_
              refine v_irem (pc := 95) hO dX4_feed_95 (by omega) (by first | assumption | exact hMz _ | exact int32_R _ | (unfold zR; omega)) (by omega) (by first | assumption | exact hMz _ | exact int32_R _ | (unfold zR; omega)) ?_
              refine v_imul (pc := 96) hO dX4_feed_96 ?_
              refine v_isub (pc := 97) hO dX4_feed_97 ?_
              refine v_ishr (pc := 98) (z := shrI e (24 - (8 * (k % 4)))) hO dX4_feed_98 (zi_ti _).symm ?_
              refine v_sipush (pc := 99) hO dX4_feed_99 (by decide +kernel) ?_
              refine v_iand (pc := 102) (z := andI (shrI e (24 - (8 * (k % 4)))) 255) hO dX4_feed_102 (zi_ti _).symm ?_
              refine r_iast (pc := 103) (Ar2 := (rA (rA Ar 12 (zupd F1 (S 13 + k) (andI (shrI e (24 - (8 * (k % 4)))) 255))) 0 M)) (L := 600) hO hr hA 12 ri_12 rfl (rA_up (by intro i e; simp only [rA, if_neg e]) rfl) (by omega) (by omega) (by first | assumption | exact hMz _ | exact int32_R _ | (unfold zR; omega)) dX4_feed_103 (fun h hr => ?_)
              refine v_aload_n (pc := 104) hO dX4_feed_104 rfl ?_
              refine v_dup (pc := 105) hO dX4_feed_105 rfl ?_
              refine v_getf (pc := 106) (v := .inl (S 13 + k)) hO cp_X4 13 q2138 hr.ob (by decide) rfl dX4_feed_106 ?_
              refine v_iconst (pc := 109) hO dX4_feed_109 ?_
              refine v_iadd (pc := 110) hO dX4_feed_110 ?_
              refine r_puti (pc := 111) (S2 := (rS (rS S 6 0) 13 (S 13 + k + 1))) hO hr hA 13 rn_13 q2138 (rS_rS _ _ _ _) (by first | assumption | exact hMz _ | exact int32_R _ | (unfold zR; omega)) dX4_feed_111 (fun h hr => ?_)
              refine v_iinc (pc := 114) hO (lv' := [(6, .inl (k + 1)), (7, .inl e), (0, sref am), (1, .inl a), (2, .inl b), (3, .inl c), (4, .inl d), (5, .inl e)]) dX4_feed_114 rfl (by decide) rfl ?_
              refine v_goto (pc := 117) (tgt := 23) hO dX4_feed_117 (by decide) ?_
              refine v_pick (lv2 := [(0, sref am), (1, .inl a), (2, .inl b), (3, .inl c), (4, .inl d), (5, .inl e), (6, .inl ((k + 1)))]) [2, 3, 4, 5, 6, 7, 0] rfl ?_
              exact ih (k + 1, zupd F1 (S 13 + k) (andI (shrI e (24 - (8 * (k % 4)))) 255), _) ⟨(by omega), (by omega), (by rw [show S 13 + (k + 1) = S 13 + k + 1 by omega]; exact hr), (fun z => if e9 : z = S 13 + k then (by subst e9; rw [zupd_s]; unfold fedF; rw [if_pos (by omega), show S 13 + k - S 13 = k by omega, show wrdI a b c d e k = e from (if_neg (by omega)).trans ((if_neg (by omega)).trans ((if_neg (by omega)).trans (if_neg (by omega))))]; rfl) else (by rw [zupd_n e9, hF z]; unfold fedF; (repeat' split) <;> first | rfl | omega))⟩ (by show (20 - (k + 1)).toNat < (20 - k).toNat; omega)
            · refine v_iload (pc := 69) hO dX4_feed_69 rfl ?_
              refine v_goto (pc := 71) (tgt := 76) hO dX4_feed_71 (by decide) ?_
              refine v_istore (pc := 76) hO (lv' := [(7, .inl d), (0, sref am), (1, .inl a), (2, .inl b), (3, .inl c), (4, .inl d), (5, .inl e), (6, .inl k)]) dX4_feed_76 (by decide) rfl ?_
              refine v_aload_n (pc := 78) hO dX4_feed_78 rfl ?_
              refine v_getf (pc := 79) (v := sref (ad 12)) hO cp_X4 12 q2137 hr.ob (by decide) rfl dX4_feed_79 ?_
              refine v_aload_n (pc := 82) hO dX4_feed_82 rfl ?_
              refine v_getf (pc := 83) (v := .inl (S 13 + k)) hO cp_X4 13 q2138 hr.ob (by decide) rfl dX4_feed_83 ?_
              refine v_iload (pc := 86) hO dX4_feed_86 rfl ?_
              refine v_bipush (pc := 88) hO dX4_feed_88 (by decide +kernel) ?_
              refine v_bipush (pc := 90) hO dX4_feed_90 (by decide +kernel) ?_
              refine v_iload (pc := 92) hO dX4_feed_92 rfl ?_
              refine v_iconst (pc := 94) hO dX4_feed_94 ?_
              refine v_irem (pc := 95) hO dX4_feed_95 (by omega) (by first | assumption | exact hMz _ | exact int32_R _ | (unfold zR; omega)) (by omega) (by first | assumption | exact hMz _ | exact int32_R _ | (unfold zR; omega)) ?_
              refine v_imul (pc := 96) hO dX4_feed_96 ?_
              refine v_isub (pc := 97) hO dX4_feed_97 ?_
              refine v_ishr (pc := 98) (z := shrI d (24 - (8 * (k % 4)))) hO dX4_feed_98 (zi_ti _).symm ?_
              refine v_sipush (pc := 99) hO dX4_feed_99 (by decide +kernel) ?_
              refine v_iand (pc := 102) (z := andI (shrI d (24 - (8 * (k % 4)))) 255) hO dX4_feed_102 (zi_ti _).symm ?_
              refine r_iast (pc := 103) (Ar2 := (rA (rA Ar 12 (zupd F1 (S 13 + k) (andI (shrI d (24 - (8 * (k % 4)))) 255))) 0 M)) (L := 600) hO hr hA 12 ri_12 rfl (rA_up (by intro i e; simp only [rA, if_neg e]) rfl) (by omega) (by omega) (by first | assumption | exact hMz _ | exact int32_R _ | (unfold zR; omega)) dX4_feed_103 (fun h hr => ?_)
              refine v_aload_n (pc := 104) hO dX4_feed_104 rfl ?_
              refine v_dup (pc := 105) hO dX4_feed_105 rfl ?_
              refine v_getf (pc := 106) (v := .inl (S 13 + k)) hO cp_X4 13 q2138 hr.ob (by decide) rfl dX4_feed_106 ?_
              refine v_iconst (pc := 109) hO dX4_feed_109 ?_
              refine v_iadd (pc := 110) hO dX4_feed_110 ?_
              refine r_puti (pc := 111) (S2 := (rS (rS S 6 0) 13 (S 13 + k + 1))) hO hr hA 13 rn_13 q2138 (rS_rS _ _ _ _) (by first | assumption | exact hMz _ | exact int32_R _ | (unfold zR; omega)) dX4_feed_111 (fun h hr => ?_)
              refine v_iinc (pc := 114) hO (lv' := [(6, .inl (k + 1)), (7, .inl d), (0, sref am), (1, .inl a), (2, .inl b), (3, .inl c), (4, .inl d), (5, .inl e)]) dX4_feed_114 rfl (by decide) rfl ?_
              refine v_goto (pc := 117) (tgt := 23) hO dX4_feed_117 (by decide) ?_
              refine v_pick (lv2 := [(0, sref am), (1, .inl a), (2, .inl b), (3, .inl c), (4, .inl d), (5, .inl e), (6, .inl ((k + 1)))]) [2, 3, 4, 5, 6, 7, 0] rfl ?_
              exact ih (k + 1, zupd F1 (S 13 + k) (andI (shrI d (24 - (8 * (k % 4)))) 255), _) ⟨(by omega), (by omega), (by rw [show S 13 + (k + 1) = S 13 + k + 1 by omega]; exact hr), (fun z => if e9 : z = S 13 + k then (by subst e9; rw [zupd_s]; unfold fedF; rw [if_pos (by omega), show S 13 + k - S 13 = k by omega, show wrdI a b c d e k = d from (if_neg (by omega)).trans ((if_neg (by omega)).trans ((if_neg (by omega)).trans (if_pos (by omega))))]; rfl) else (by rw [zupd_n e9, hF z]; unfold fedF; (repeat' split) <;> first | rfl | omega))⟩ (by show (20 - (k + 1)).toNat < (20 - k).toNat; omega)
          · refine v_iload_n (pc := 58) hO dX4_feed_58 rfl ?_
            refine v_goto (pc := 59) (tgt := 76) hO dX4_feed_59 (by decide) ?_
            refine v_istore (pc := 76) hO (lv' := [(7, .inl c), (0, sref am), (1, .inl a), (2, .inl b), (3, .inl c), (4, .inl d), (5, .inl e), (6, .inl k)]) dX4_feed_76 (by decide) rfl ?_
            refine v_aload_n (pc := 78) hO dX4_feed_78 rfl ?_
            refine v_getf (pc := 79) (v := sref (ad 12)) hO cp_X4 12 q2137 hr.ob (by decide) rfl dX4_feed_79 ?_
            refine v_aload_n (pc := 82) hO dX4_feed_82 rfl ?_
            refine v_getf (pc := 83) (v := .inl (S 13 + k)) hO cp_X4 13 q2138 hr.ob (by decide) rfl dX4_feed_83 ?_
            refine v_iload (pc := 86) hO dX4_feed_86 rfl ?_
            refine v_bipush (pc := 88) hO dX4_feed_88 (by decide +kernel) ?_
            refine v_bipush (pc := 90) hO dX4_feed_90 (by decide +kernel) ?_
            refine v_iload (pc := 92) hO dX4_feed_92 rfl ?_
            refine v_iconst (pc := 94) hO dX4_feed_94 ?_
            refine v_irem (pc := 95) hO dX4_feed_95 (by omega) (by first | assumption | exact hMz _ | exact int32_R _ | (unfold zR; omega)) (by omega) (by first | assumption | exact hMz _ | exact int32_R _ | (unfold zR; omega)) ?_
            refine v_imul (pc := 96) hO dX4_feed_96 ?_
            refine v_isub (pc := 97) hO dX4_feed_97 ?_
            refine v_ishr (pc := 98) (z := shrI c (24 - (8 * (k % 4)))) hO dX4_feed_98 (zi_ti _).symm ?_
            refine v_sipush (pc := 99) hO dX4_feed_99 (by decide +kernel) ?_
            refine v_iand (pc := 102) (z := andI (shrI c (24 - (8 * (k % 4)))) 255) hO dX4_feed_102 (zi_ti _).symm ?_
            refine r_iast (pc := 103) (Ar2 := (rA (rA Ar 12 (zupd F1 (S 13 + k) (andI (shrI c (24 - (8 * (k % 4)))) 255))) 0 M)) (L := 600) hO hr hA 12 ri_12 rfl (rA_up (by intro i e; simp only [rA, if_neg e]) rfl) (by omega) (by omega) (by first | assumption | exact hMz _ | exact int32_R _ | (unfold zR; omega)) dX4_feed_103 (fun h hr => ?_)
            refine v_aload_n (pc := 104) hO dX4_feed_104 rfl ?_
            refine v_dup (pc := 105) hO dX4_feed_105 rfl ?_
            refine v_getf (pc := 106) (v := .inl (S 13 + k)) hO cp_X4 13 q2138 hr.ob (by decide) rfl dX4_feed_106 ?_
            refine v_iconst (pc := 109) hO dX4_feed_109 ?_
            refine v_iadd (pc := 110) hO dX4_feed_110 ?_
            refine r_puti (pc := 111) (S2 := (rS (rS S 6 0) 13 (S 13 + k + 1))) hO hr hA 13 rn_13 q2138 (rS_rS _ _ _ _) (by first | assumption | exact hMz _ | exact int32_R _ | (unfold zR; omega)) dX4_feed_111 (fun h hr => ?_)
            refine v_iinc (pc := 114) hO (lv' := [(6, .inl (k + 1)), (7, .inl c), (0, sref am), (1, .inl a), (2, .inl b), (3, .inl c), (4, .inl d), (5, .inl e)]) dX4_feed_114 rfl (by decide) rfl ?_
            refine v_goto (pc := 117) (tgt := 23) hO dX4_feed_117 (by decide) ?_
            refine v_pick (lv2 := [(0, sref am), (1, .inl a), (2, .inl b), (3, .inl c), (4, .inl d), (5, .inl e), (6, .inl ((k + 1)))]) [2, 3, 4, 5, 6, 7, 0] rfl ?_
            exact ih (k + 1, zupd F1 (S 13 + k) (andI (shrI c (24 - (8 * (k % 4)))) 255), _) ⟨(by omega), (by omega), (by rw [show S 13 + (k + 1) = S 13 + k + 1 by omega]; exact hr), (fun z => if e9 : z = S 13 + k then (by subst e9; rw [zupd_s]; unfold fedF; rw [if_pos (by omega), show S 13 + k - S 13 = k by omega, show wrdI a b c d e k = c from (if_neg (by omega)).trans ((if_neg (by omega)).trans (if_pos (by omega)))]; rfl) else (by rw [zupd_n e9, hF z]; unfold fedF; (repeat' split) <;> first | rfl | omega))⟩ (by show (20 - (k + 1)).toNat < (20 - k).toNat; omega)
        · refine v_iload_n (pc := 47) hO dX4_feed_47 rfl ?_
          refine v_goto (pc := 48) (tgt := 76) hO dX4_feed_48 (by decide) ?_
          refine v_istore (pc := 76) hO (lv' := [(7, .inl b), (0, sref am), (1, .inl a), (2, .inl b), (3, .inl c), (4, .inl d), (5, .inl e), (6, .inl k)]) dX4_feed_76 (by decide) rfl ?_
          refine v_aload_n (pc := 78) hO dX4_feed_78 rfl ?_
          refine v_getf (pc := 79) (v := sref (ad 12)) hO cp_X4 12 q2137 hr.ob (by decide) rfl dX4_feed_79 ?_
          refine v_aload_n (pc := 82) hO dX4_feed_82 rfl ?_
          refine v_getf (pc := 83) (v := .inl (S 13 + k)) hO cp_X4 13 q2138 hr.ob (by decide) rfl dX4_feed_83 ?_
          refine v_iload (pc := 86) hO dX4_feed_86 rfl ?_
          refine v_bipush (pc := 88) hO dX4_feed_88 (by decide +kernel) ?_
          refine v_bipush (pc := 90) hO dX4_feed_90 (by decide +kernel) ?_
          refine v_iload (pc := 92) hO dX4_feed_92 rfl ?_
          refine v_iconst (pc := 94) hO dX4_feed_94 ?_
          refine v_irem (pc := 95) hO dX4_feed_95 (by omega) (by first | assumption | exact hMz _ | exact int32_R _ | (unfold zR; omega)) (by omega) (by first | assumption | exact hMz _ | exact int32_R _ | (unfold zR; omega)) ?_
          refine v_imul (pc := 96) hO dX4_feed_96 ?_
          refine v_isub (pc := 97) hO dX4_feed_97 ?_
          refine v_ishr (pc := 98) (z := shrI b (24 - (8 * (k % 4)))) hO dX4_feed_98 (zi_ti _).symm ?_
          refine v_sipush (pc := 99) hO dX4_feed_99 (by decide +kernel) ?_
          refine v_iand (pc := 102) (z := andI (shrI b (24 - (8 * (k % 4)))) 255) hO dX4_feed_102 (zi_ti _).symm ?_
          refine r_iast (pc := 103) (Ar2 := (rA (rA Ar 12 (zupd F1 (S 13 + k) (andI (shrI b (24 - (8 * (k % 4)))) 255))) 0 M)) (L := 600) hO hr hA 12 ri_12 rfl (rA_up (by intro i e; simp only [rA, if_neg e]) rfl) (by omega) (by omega) (by first | assumption | exact hMz _ | exact int32_R _ | (unfold zR; omega)) dX4_feed_103 (fun h hr => ?_)
          refine v_aload_n (pc := 104) hO dX4_feed_104 rfl ?_
          refine v_dup (pc := 105) hO dX4_feed_105 rfl ?_
          refine v_getf (pc := 106) (v := .inl (S 13 + k)) hO cp_X4 13 q2138 hr.ob (by decide) rfl dX4_feed_106 ?_
          refine v_iconst (pc := 109) hO dX4_feed_109 ?_
          refine v_iadd (pc := 110) hO dX4_feed_110 ?_
          refine r_puti (pc := 111) (S2 := (rS (rS S 6 0) 13 (S 13 + k + 1))) hO hr hA 13 rn_13 q2138 (rS_rS _ _ _ _) (by first | assumption | exact hMz _ | exact int32_R _ | (unfold zR; omega)) dX4_feed_111 (fun h hr => ?_)
          refine v_iinc (pc := 114) hO (lv' := [(6, .inl (k + 1)), (7, .inl b), (0, sref am), (1, .inl a), (2, .inl b), (3, .inl c), (4, .inl d), (5, .inl e)]) dX4_feed_114 rfl (by decide) rfl ?_
          refine v_goto (pc := 117) (tgt := 23) hO dX4_feed_117 (by decide) ?_
          refine v_pick (lv2 := [(0, sref am), (1, .inl a), (2, .inl b), (3, .inl c), (4, .inl d), (5, .inl e), (6, .inl ((k + 1)))]) [2, 3, 4, 5, 6, 7, 0] rfl ?_
          exact ih (k + 1, zupd F1 (S 13 + k) (andI (shrI b (24 - (8 * (k % 4)))) 255), _) ⟨(by omega), (by omega), (by rw [show S 13 + (k + 1) = S 13 + k + 1 by omega]; exact hr), (fun z => if e9 : z = S 13 + k then (by subst e9; rw [zupd_s]; unfold fedF; rw [if_pos (by omega), show S 13 + k - S 13 = k by omega, show wrdI a b c d e k = b from (if_neg (by omega)).trans (if_pos (by omega))]; rfl) else (by rw [zupd_n e9, hF z]; unfold fedF; (repeat' split) <;> first | rfl | omega))⟩ (by show (20 - (k + 1)).toNat < (20 - k).toNat; omega)
      · refine v_iload_n (pc := 36) hO dX4_feed_36 rfl ?_
        refine v_goto (pc := 37) (tgt := 76) hO dX4_feed_37 (by decide) ?_
        refine v_istore (pc := 76) hO (lv' := [(7, .inl a), (0, sref am), (1, .inl a), (2, .inl b), (3, .inl c), (4, .inl d), (5, .inl e), (6, .inl k)]) dX4_feed_76 (by decide) rfl ?_
        refine v_aload_n (pc := 78) hO dX4_feed_78 rfl ?_
        refine v_getf (pc := 79) (v := sref (ad 12)) hO cp_X4 12 q2137 hr.ob (by decide) rfl dX4_feed_79 ?_
        refine v_aload_n (pc := 82) hO dX4_feed_82 rfl ?_
        refine v_getf (pc := 83) (v := .inl (S 13 + k)) hO cp_X4 13 q2138 hr.ob (by decide) rfl dX4_feed_83 ?_
        refine v_iload (pc := 86) hO dX4_feed_86 rfl ?_
        refine v_bipush (pc := 88) hO dX4_feed_88 (by decide +kernel) ?_
        refine v_bipush (pc := 90) hO dX4_feed_90 (by decide +kernel) ?_
        refine v_iload (pc := 92) hO dX4_feed_92 rfl ?_
        refine v_iconst (pc := 94) hO dX4_feed_94 ?_
        refine v_irem (pc := 95) hO dX4_feed_95 (by omega) (by first | assumption | exact hMz _ | exact int32_R _ | (unfold zR; omega)) (by omega) (by first | assumption | exact hMz _ | exact int32_R _ | (unfold zR; omega)) ?_
        refine v_imul (pc := 96) hO dX4_feed_96 ?_
        refine v_isub (pc := 97) hO dX4_feed_97 ?_
        refine v_ishr (pc := 98) (z := shrI a (24 - (8 * (k % 4)))) hO dX4_feed_98 (zi_ti _).symm ?_
        refine v_sipush (pc := 99) hO dX4_feed_99 (by decide +kernel) ?_
        refine v_iand (pc := 102) (z := andI (shrI a (24 - (8 * (k % 4)))) 255) hO dX4_feed_102 (zi_ti _).symm ?_
        refine r_iast (pc := 103) (Ar2 := (rA (rA Ar 12 (zupd F1 (S 13 + k) (andI (shrI a (24 - (8 * (k % 4)))) 255))) 0 M)) (L := 600) hO hr hA 12 ri_12 rfl (rA_up (by intro i e; simp only [rA, if_neg e]) rfl) (by omega) (by omega) (by first | assumption | exact hMz _ | exact int32_R _ | (unfold zR; omega)) dX4_feed_103 (fun h hr => ?_)
        refine v_aload_n (pc := 104) hO dX4_feed_104 rfl ?_
        refine v_dup (pc := 105) hO dX4_feed_105 rfl ?_
        refine v_getf (pc := 106) (v := .inl (S 13 + k)) hO cp_X4 13 q2138 hr.ob (by decide) rfl dX4_feed_106 ?_
        refine v_iconst (pc := 109) hO dX4_feed_109 ?_
        refine v_iadd (pc := 110) hO dX4_feed_110 ?_
        refine r_puti (pc := 111) (S2 := (rS (rS S 6 0) 13 (S 13 + k + 1))) hO hr hA 13 rn_13 q2138 (rS_rS _ _ _ _) (by first | assumption | exact hMz _ | exact int32_R _ | (unfold zR; omega)) dX4_feed_111 (fun h hr => ?_)
        refine v_iinc (pc := 114) hO (lv' := [(6, .inl (k + 1)), (7, .inl a), (0, sref am), (1, .inl a), (2, .inl b), (3, .inl c), (4, .inl d), (5, .inl e)]) dX4_feed_114 rfl (by decide) rfl ?_
        refine v_goto (pc := 117) (tgt := 23) hO dX4_feed_117 (by decide) ?_
        refine v_pick (lv2 := [(0, sref am), (1, .inl a), (2, .inl b), (3, .inl c), (4, .inl d), (5, .inl e), (6, .inl ((k + 1)))]) [2, 3, 4, 5, 6, 7, 0] rfl ?_
        exact ih (k + 1, zupd F1 (S 13 + k) (andI (shrI a (24 - (8 * (k % 4)))) 255), _) ⟨(by omega), (by omega), (by rw [show S 13 + (k + 1) = S 13 + k + 1 by omega]; exact hr), (fun z => if e9 : z = S 13 + k then (by subst e9; rw [zupd_s]; unfold fedF; rw [if_pos (by omega), show S 13 + k - S 13 = k by omega, show wrdI a b c d e k = a from if_pos (by omega)]; rfl) else (by rw [zupd_n e9, hF z]; unfold fedF; (repeat' split) <;> first | rfl | omega))⟩ (by show (20 - (k + 1)).toNat < (20 - k).toNat; omega)
  · refine v_iconst (pc := 18) hO dX4_feed_18 ?_
    exact v_iret hO dX4_feed_19 rfl (Nat.le_of_ble_eq_true rfl) (Nat.le_of_ble_eq_true rfl) (Or.inl ⟨by omega, rfl, hr⟩)
theorem yo_X4_isHeldInDraft : yOK yX4_isHeldInDraft 2 := by unfold yOK; exact ⟨by decide +kernel, by decide +kernel, by decide +kernel⟩
set_option maxRecDepth 100000 in
theorem m_isHeldInDraft {G : GT} {h : AH} {am : Nat} {ad : Nat → Nat} {nmf : Int → Option Nat} {S : Nat → Int} {Ar : Nat → Int → Int} {M : Int → Int}  {A : Nat → Prop} {D : Int → Int} (hr : RefAt G h am ad nmf S (rA (rA Ar 1 D) 0 M)) (x y : Int) (zx : zR x) (zy : zR y) (hd2 : inb (D 2) 0 6) : CC G yX4_isHeldInDraft cX4_isHeldInDraft 5 (some .boolean) ({ frames := 2, cells := 0, slots := 0, locals := 33 } : Room) A [sref am, .inl x, .inl y] h (fun v h1 => v = some (.inl (b2i (decide (dhlM D x y = true)))) ∧ h = h1) := by
  refine CC.of (by decide +kernel) [(0, sref am), (1, .inl x), (2, .inl y)] rfl (Nat.le_of_ble_eq_true rfl) (fun X hnm hO => ?_)
  have hDz : ∀ z, zR (D z) := fun z => hr.zA 1 z
  refine v_aload_n (pc := 0) hO dX4_isHeldInDraft_0 rfl ?_
  refine v_getf (pc := 1) (v := sref (ad 1)) hO cp_X4 1 q2126 hr.ob (by decide) rfl dX4_isHeldInDraft_1 ?_
  refine v_bipush (pc := 4) hO dX4_isHeldInDraft_4 (by decide +kernel) ?_
  refine r_iald (pc := 6) (w := D 10) (L := 3934) hO hr 1 ri_1 rfl rfl (by omega) (by omega) dX4_isHeldInDraft_6 ?_
  refine v_iload_n (pc := 7) hO dX4_isHeldInDraft_7 rfl ?_
  refine v_icmp_ne (pc := 8) (tgt := 26) hO dX4_isHeldInDraft_8 (by decide) (by first | assumption | exact hDz _ | (unfold zR; omega)) (by first | assumption | exact hDz _ | (unfold zR; omega)) (fun c8 => ?_) (fun c8 => ?_)
  · refine v_iconst (pc := 26) hO dX4_isHeldInDraft_26 ?_
    refine v_istore_n (pc := 27) hO (lv' := [(3, .inl 0), (0, sref am), (1, .inl x), (2, .inl y)]) dX4_isHeldInDraft_27 (by decide) rfl ?_
    refine v_iconst (pc := 28) hO dX4_isHeldInDraft_28 ?_
    refine v_istore (pc := 29) hO (lv' := [(4, .inl 0), (3, .inl 0), (0, sref am), (1, .inl x), (2, .inl y)]) dX4_isHeldInDraft_29 (by decide) rfl ?_
    refine v_pick (lv2 := [(0, sref am), (1, .inl x), (2, .inl y), (3, .inl (b2i false)), (4, .inl 0)]) [2, 3, 4, 1, 0] rfl ?_
    refine v_loop (σ := Int × Bool) (fun (i, Hb) => 0 ≤ i ∧ i ≤ D 2 ∧ dhlM D x y = (Hb || anyI (dhlP D x y) (D 2 - i).toNat i)) (fun (i, Hb) => (D 2 - i).toNat) (fun (i, Hb) => h) (fun (i, Hb) => [(0, sref am), (1, .inl x), (2, .inl y), (3, .inl (b2i Hb)), (4, .inl i)]) (0, false) ⟨Int.le_refl _, (by omega), (by unfold dhlM; rw [decide_eq_false (p := D 10 = x ∧ D 11 = y) (by omega)])⟩ ?_
    rintro ⟨i, Hb⟩ ⟨hi0, hi1, hg⟩ ih
    show VV X G A _ _ _ h _ _ 31 [(0, sref am), (1, .inl x), (2, .inl y), (3, .inl (b2i Hb)), (4, .inl i)] []
    refine v_iload (pc := 31) hO dX4_isHeldInDraft_31 rfl ?_
    refine v_aload_n (pc := 33) hO dX4_isHeldInDraft_33 rfl ?_
    refine v_getf (pc := 34) (v := sref (ad 1)) hO cp_X4 1 q2126 hr.ob (by decide) rfl dX4_isHeldInDraft_34 ?_
    refine v_iconst (pc := 37) hO dX4_isHeldInDraft_37 ?_
    refine r_iald (pc := 38) (w := D 2) (L := 3934) hO hr 1 ri_1 rfl rfl (by omega) (by omega) dX4_isHeldInDraft_38 ?_
    refine v_icmp_ge (pc := 39) (tgt := 86) hO dX4_isHeldInDraft_39 (by decide) (by first | assumption | exact hDz _ | (unfold zR; omega)) (by first | assumption | exact hDz _ | (unfold zR; omega)) (fun c39 => ?_) (fun c39 => ?_)
    · refine v_iload_n (pc := 86) hO dX4_isHeldInDraft_86 rfl ?_
      exact v_zret hO dX4_isHeldInDraft_87 rfl (nar_z (b2i_c _)) (Nat.le_of_ble_eq_true rfl) (Nat.le_of_ble_eq_true rfl) ⟨congrArg (fun z => some (Sum.inl z)) (by rw [Bool.decide_eq_true, hg, anyI_e (by omega), Bool.or_false]), rfl⟩
    · refine v_iload_n (pc := 42) hO dX4_isHeldInDraft_42 rfl ?_
      refine v_aload_n (pc := 43) hO dX4_isHeldInDraft_43 rfl ?_
      refine v_getf (pc := 44) (v := sref (ad 1)) hO cp_X4 1 q2126 hr.ob (by decide) rfl dX4_isHeldInDraft_44 ?_
      refine v_iload (pc := 47) hO dX4_isHeldInDraft_47 rfl ?_
      refine v_iconst (pc := 49) hO dX4_isHeldInDraft_49 ?_
      refine v_callS (pc := 50) hO (m_unitAt i 0) (lw_S q2238 q2239 q117 q2240) yo_X4_unitAt rfl rfl (by decide) (by decide) (k2 := 0) (n2 := 0) (by decide) (by decide) (by decide) (by decide) dX4_isHeldInDraft_50 (fun va hv hp hf1 => ?_)
      obtain ⟨rfl, rfl⟩ := hp
      refine r_iald (pc := 53) (w := D (12 + 4 * i + 0)) (L := 3934) hO hr 1 ri_1 rfl rfl (by omega) (by omega) dX4_isHeldInDraft_53 ?_
      refine v_iload_n (pc := 54) hO dX4_isHeldInDraft_54 rfl ?_
      refine v_icmp_ne (pc := 55) (tgt := 77) hO dX4_isHeldInDraft_55 (by decide) (by first | assumption | exact hDz _ | (unfold zR; omega)) (by first | assumption | exact hDz _ | (unfold zR; omega)) (fun c55 => ?_) (fun c55 => ?_)
      · refine v_iconst (pc := 77) hO dX4_isHeldInDraft_77 ?_
        refine v_ior0 (pc := 78) hO dX4_isHeldInDraft_78 ?_
        refine v_istore_n (pc := 79) hO (lv' := [(3, .inl (b2i Hb)), (0, sref am), (1, .inl x), (2, .inl y), (4, .inl i)]) dX4_isHeldInDraft_79 (by decide) rfl ?_
        refine v_iinc (pc := 80) hO (lv' := [(4, .inl (i + 1)), (3, .inl (b2i Hb)), (0, sref am), (1, .inl x), (2, .inl y)]) dX4_isHeldInDraft_80 rfl (by decide) rfl ?_
        refine v_goto (pc := 83) (tgt := 31) hO dX4_isHeldInDraft_83 (by decide) ?_
        refine v_pick (lv2 := [(0, sref am), (1, .inl x), (2, .inl y), (3, .inl (b2i Hb)), (4, .inl ((i + 1)))]) [2, 3, 4, 1, 0] rfl ?_
        exact ih (i + 1, Hb) ⟨(by omega), (by omega), (by rw [hg, anyI_s (show i < D 2 by omega), show dhlP D x y i = false from decide_eq_false (by omega)]; cases Hb <;> rfl)⟩ (by show (D 2 - (i + 1)).toNat < (D 2 - i).toNat; omega)
      · refine v_aload_n (pc := 58) hO dX4_isHeldInDraft_58 rfl ?_
        refine v_getf (pc := 59) (v := sref (ad 1)) hO cp_X4 1 q2126 hr.ob (by decide) rfl dX4_isHeldInDraft_59 ?_
        refine v_iload (pc := 62) hO dX4_isHeldInDraft_62 rfl ?_
        refine v_iconst (pc := 64) hO dX4_isHeldInDraft_64 ?_
        refine v_callS (pc := 65) hO (m_unitAt i 1) (lw_S q2238 q2239 q117 q2240) yo_X4_unitAt rfl rfl (by decide) (by decide) (k2 := 0) (n2 := 0) (by decide) (by decide) (by decide) (by decide) dX4_isHeldInDraft_65 (fun va hv hp hf1 => ?_)
        obtain ⟨rfl, rfl⟩ := hp
        refine r_iald (pc := 68) (w := D (12 + 4 * i + 1)) (L := 3934) hO hr 1 ri_1 rfl rfl (by omega) (by omega) dX4_isHeldInDraft_68 ?_
        refine v_iload_n (pc := 69) hO dX4_isHeldInDraft_69 rfl ?_
        refine v_icmp_ne (pc := 70) (tgt := 77) hO dX4_isHeldInDraft_70 (by decide) (by first | assumption | exact hDz _ | (unfold zR; omega)) (by first | assumption | exact hDz _ | (unfold zR; omega)) (fun c70 => ?_) (fun c70 => ?_)
        · refine v_iconst (pc := 77) hO dX4_isHeldInDraft_77 ?_
          refine v_ior0 (pc := 78) hO dX4_isHeldInDraft_78 ?_
          refine v_istore_n (pc := 79) hO (lv' := [(3, .inl (b2i Hb)), (0, sref am), (1, .inl x), (2, .inl y), (4, .inl i)]) dX4_isHeldInDraft_79 (by decide) rfl ?_
          refine v_iinc (pc := 80) hO (lv' := [(4, .inl (i + 1)), (3, .inl (b2i Hb)), (0, sref am), (1, .inl x), (2, .inl y)]) dX4_isHeldInDraft_80 rfl (by decide) rfl ?_
          refine v_goto (pc := 83) (tgt := 31) hO dX4_isHeldInDraft_83 (by decide) ?_
          refine v_pick (lv2 := [(0, sref am), (1, .inl x), (2, .inl y), (3, .inl (b2i Hb)), (4, .inl ((i + 1)))]) [2, 3, 4, 1, 0] rfl ?_
          exact ih (i + 1, Hb) ⟨(by omega), (by omega), (by rw [hg, anyI_s (show i < D 2 by omega), show dhlP D x y i = false from decide_eq_false (by omega)]; cases Hb <;> rfl)⟩ (by show (D 2 - (i + 1)).toNat < (D 2 - i).toNat; omega)
        · refine v_iconst (pc := 73) hO dX4_isHeldInDraft_73 ?_
          refine v_goto (pc := 74) (tgt := 78) hO dX4_isHeldInDraft_74 (by decide) ?_
          refine v_ior1 (pc := 78) hO dX4_isHeldInDraft_78 ?_
          refine v_istore_n (pc := 79) hO (lv' := [(3, .inl (b2i true)), (0, sref am), (1, .inl x), (2, .inl y), (4, .inl i)]) dX4_isHeldInDraft_79 (by decide) rfl ?_
          refine v_iinc (pc := 80) hO (lv' := [(4, .inl (i + 1)), (3, .inl (b2i true)), (0, sref am), (1, .inl x), (2, .inl y)]) dX4_isHeldInDraft_80 rfl (by decide) rfl ?_
          refine v_goto (pc := 83) (tgt := 31) hO dX4_isHeldInDraft_83 (by decide) ?_
          refine v_pick (lv2 := [(0, sref am), (1, .inl x), (2, .inl y), (3, .inl (b2i true)), (4, .inl ((i + 1)))]) [2, 3, 4, 1, 0] rfl ?_
          exact ih (i + 1, true) ⟨(by omega), (by omega), (by rw [hg, anyI_s (show i < D 2 by omega), show dhlP D x y i = true from decide_eq_true (by omega)]; cases Hb <;> rfl)⟩ (by show (D 2 - (i + 1)).toNat < (D 2 - i).toNat; omega)
  · refine v_aload_n (pc := 11) hO dX4_isHeldInDraft_11 rfl ?_
    refine v_getf (pc := 12) (v := sref (ad 1)) hO cp_X4 1 q2126 hr.ob (by decide) rfl dX4_isHeldInDraft_12 ?_
    refine v_bipush (pc := 15) hO dX4_isHeldInDraft_15 (by decide +kernel) ?_
    refine r_iald (pc := 17) (w := D 11) (L := 3934) hO hr 1 ri_1 rfl rfl (by omega) (by omega) dX4_isHeldInDraft_17 ?_
    refine v_iload_n (pc := 18) hO dX4_isHeldInDraft_18 rfl ?_
    refine v_icmp_ne (pc := 19) (tgt := 26) hO dX4_isHeldInDraft_19 (by decide) (by first | assumption | exact hDz _ | (unfold zR; omega)) (by first | assumption | exact hDz _ | (unfold zR; omega)) (fun c19 => ?_) (fun c19 => ?_)
    · refine v_iconst (pc := 26) hO dX4_isHeldInDraft_26 ?_
      refine v_istore_n (pc := 27) hO (lv' := [(3, .inl 0), (0, sref am), (1, .inl x), (2, .inl y)]) dX4_isHeldInDraft_27 (by decide) rfl ?_
      refine v_iconst (pc := 28) hO dX4_isHeldInDraft_28 ?_
      refine v_istore (pc := 29) hO (lv' := [(4, .inl 0), (3, .inl 0), (0, sref am), (1, .inl x), (2, .inl y)]) dX4_isHeldInDraft_29 (by decide) rfl ?_
      refine v_pick (lv2 := [(0, sref am), (1, .inl x), (2, .inl y), (3, .inl (b2i false)), (4, .inl 0)]) [2, 3, 4, 1, 0] rfl ?_
      refine v_loop (σ := Int × Bool) (fun (i, Hb) => 0 ≤ i ∧ i ≤ D 2 ∧ dhlM D x y = (Hb || anyI (dhlP D x y) (D 2 - i).toNat i)) (fun (i, Hb) => (D 2 - i).toNat) (fun (i, Hb) => h) (fun (i, Hb) => [(0, sref am), (1, .inl x), (2, .inl y), (3, .inl (b2i Hb)), (4, .inl i)]) (0, false) ⟨Int.le_refl _, (by omega), (by unfold dhlM; rw [decide_eq_false (p := D 10 = x ∧ D 11 = y) (by omega)])⟩ ?_
      rintro ⟨i, Hb⟩ ⟨hi0, hi1, hg⟩ ih
      show VV X G A _ _ _ h _ _ 31 [(0, sref am), (1, .inl x), (2, .inl y), (3, .inl (b2i Hb)), (4, .inl i)] []
      refine v_iload (pc := 31) hO dX4_isHeldInDraft_31 rfl ?_
      refine v_aload_n (pc := 33) hO dX4_isHeldInDraft_33 rfl ?_
      refine v_getf (pc := 34) (v := sref (ad 1)) hO cp_X4 1 q2126 hr.ob (by decide) rfl dX4_isHeldInDraft_34 ?_
      refine v_iconst (pc := 37) hO dX4_isHeldInDraft_37 ?_
      refine r_iald (pc := 38) (w := D 2) (L := 3934) hO hr 1 ri_1 rfl rfl (by omega) (by omega) dX4_isHeldInDraft_38 ?_
      refine v_icmp_ge (pc := 39) (tgt := 86) hO dX4_isHeldInDraft_39 (by decide) (by first | assumption | exact hDz _ | (unfold zR; omega)) (by first | assumption | exact hDz _ | (unfold zR; omega)) (fun c39 => ?_) (fun c39 => ?_)
      · refine v_iload_n (pc := 86) hO dX4_isHeldInDraft_86 rfl ?_
        exact v_zret hO dX4_isHeldInDraft_87 rfl (nar_z (b2i_c _)) (Nat.le_of_ble_eq_true rfl) (Nat.le_of_ble_eq_true rfl) ⟨congrArg (fun z => some (Sum.inl z)) (by rw [Bool.decide_eq_true, hg, anyI_e (by omega), Bool.or_false]), rfl⟩
      · refine v_iload_n (pc := 42) hO dX4_isHeldInDraft_42 rfl ?_
        refine v_aload_n (pc := 43) hO dX4_isHeldInDraft_43 rfl ?_
        refine v_getf (pc := 44) (v := sref (ad 1)) hO cp_X4 1 q2126 hr.ob (by decide) rfl dX4_isHeldInDraft_44 ?_
        refine v_iload (pc := 47) hO dX4_isHeldInDraft_47 rfl ?_
        refine v_iconst (pc := 49) hO dX4_isHeldInDraft_49 ?_
        refine v_callS (pc := 50) hO (m_unitAt i 0) (lw_S q2238 q2239 q117 q2240) yo_X4_unitAt rfl rfl (by decide) (by decide) (k2 := 0) (n2 := 0) (by decide) (by decide) (by decide) (by decide) dX4_isHeldInDraft_50 (fun va hv hp hf1 => ?_)
        obtain ⟨rfl, rfl⟩ := hp
        refine r_iald (pc := 53) (w := D (12 + 4 * i + 0)) (L := 3934) hO hr 1 ri_1 rfl rfl (by omega) (by omega) dX4_isHeldInDraft_53 ?_
        refine v_iload_n (pc := 54) hO dX4_isHeldInDraft_54 rfl ?_
        refine v_icmp_ne (pc := 55) (tgt := 77) hO dX4_isHeldInDraft_55 (by decide) (by first | assumption | exact hDz _ | (unfold zR; omega)) (by first | assumption | exact hDz _ | (unfold zR; omega)) (fun c55 => ?_) (fun c55 => ?_)
        · refine v_iconst (pc := 77) hO dX4_isHeldInDraft_77 ?_
          refine v_ior0 (pc := 78) hO dX4_isHeldInDraft_78 ?_
          refine v_istore_n (pc := 79) hO (lv' := [(3, .inl (b2i Hb)), (0, sref am), (1, .inl x), (2, .inl y), (4, .inl i)]) dX4_isHeldInDraft_79 (by decide) rfl ?_
          refine v_iinc (pc := 80) hO (lv' := [(4, .inl (i + 1)), (3, .inl (b2i Hb)), (0, sref am), (1, .inl x), (2, .inl y)]) dX4_isHeldInDraft_80 rfl (by decide) rfl ?_
          refine v_goto (pc := 83) (tgt := 31) hO dX4_isHeldInDraft_83 (by decide) ?_
          refine v_pick (lv2 := [(0, sref am), (1, .inl x), (2, .inl y), (3, .inl (b2i Hb)), (4, .inl ((i + 1)))]) [2, 3, 4, 1, 0] rfl ?_
          exact ih (i + 1, Hb) ⟨(by omega), (by omega), (by rw [hg, anyI_s (show i < D 2 by omega), show dhlP D x y i = false from decide_eq_false (by omega)]; cases Hb <;> rfl)⟩ (by show (D 2 - (i + 1)).toNat < (D 2 - i).toNat; omega)
        · refine v_aload_n (pc := 58) hO dX4_isHeldInDraft_58 rfl ?_
          refine v_getf (pc := 59) (v := sref (ad 1)) hO cp_X4 1 q2126 hr.ob (by decide) rfl dX4_isHeldInDraft_59 ?_
          refine v_iload (pc := 62) hO dX4_isHeldInDraft_62 rfl ?_
          refine v_iconst (pc := 64) hO dX4_isHeldInDraft_64 ?_
          refine v_callS (pc := 65) hO (m_unitAt i 1) (lw_S q2238 q2239 q117 q2240) yo_X4_unitAt rfl rfl (by decide) (by decide) (k2 := 0) (n2 := 0) (by decide) (by decide) (by decide) (by decide) dX4_isHeldInDraft_65 (fun va hv hp hf1 => ?_)
          obtain ⟨rfl, rfl⟩ := hp
          refine r_iald (pc := 68) (w := D (12 + 4 * i + 1)) (L := 3934) hO hr 1 ri_1 rfl rfl (by omega) (by omega) dX4_isHeldInDraft_68 ?_
          refine v_iload_n (pc := 69) hO dX4_isHeldInDraft_69 rfl ?_
          refine v_icmp_ne (pc := 70) (tgt := 77) hO dX4_isHeldInDraft_70 (by decide) (by first | assumption | exact hDz _ | (unfold zR; omega)) (by first | assumption | exact hDz _ | (unfold zR; omega)) (fun c70 => ?_) (fun c70 => ?_)
          · refine v_iconst (pc := 77) hO dX4_isHeldInDraft_77 ?_
            refine v_ior0 (pc := 78) hO dX4_isHeldInDraft_78 ?_
            refine v_istore_n (pc := 79) hO (lv' := [(3, .inl (b2i Hb)), (0, sref am), (1, .inl x), (2, .inl y), (4, .inl i)]) dX4_isHeldInDraft_79 (by decide) rfl ?_
            refine v_iinc (pc := 80) hO (lv' := [(4, .inl (i + 1)), (3, .inl (b2i Hb)), (0, sref am), (1, .inl x), (2, .inl y)]) dX4_isHeldInDraft_80 rfl (by decide) rfl ?_
            refine v_goto (pc := 83) (tgt := 31) hO dX4_isHeldInDraft_83 (by decide) ?_
            refine v_pick (lv2 := [(0, sref am), (1, .inl x), (2, .inl y), (3, .inl (b2i Hb)), (4, .inl ((i + 1)))]) [2, 3, 4, 1, 0] rfl ?_
            exact ih (i + 1, Hb) ⟨(by omega), (by omega), (by rw [hg, anyI_s (show i < D 2 by omega), show dhlP D x y i = false from decide_eq_false (by omega)]; cases Hb <;> rfl)⟩ (by show (D 2 - (i + 1)).toNat < (D 2 - i).toNat; omega)
          · refine v_iconst (pc := 73) hO dX4_isHeldInDraft_73 ?_
            refine v_goto (pc := 74) (tgt := 78) hO dX4_isHeldInDraft_74 (by decide) ?_
            refine v_ior1 (pc := 78) hO dX4_isHeldInDraft_78 ?_
            refine v_istore_n (pc := 79) hO (lv' := [(3, .inl (b2i true)), (0, sref am), (1, .inl x), (2, .inl y), (4, .inl i)]) dX4_isHeldInDraft_79 (by decide) rfl ?_
            refine v_iinc (pc := 80) hO (lv' := [(4, .inl (i + 1)), (3, .inl (b2i true)), (0, sref am), (1, .inl x), (2, .inl y)]) dX4_isHeldInDraft_80 rfl (by decide) rfl ?_
            refine v_goto (pc := 83) (tgt := 31) hO dX4_isHeldInDraft_83 (by decide) ?_
            refine v_pick (lv2 := [(0, sref am), (1, .inl x), (2, .inl y), (3, .inl (b2i true)), (4, .inl ((i + 1)))]) [2, 3, 4, 1, 0] rfl ?_
            exact ih (i + 1, true) ⟨(by omega), (by omega), (by rw [hg, anyI_s (show i < D 2 by omega), show dhlP D x y i = true from decide_eq_true (by omega)]; cases Hb <;> rfl)⟩ (by show (D 2 - (i + 1)).toNat < (D 2 - i).toNat; omega)
    · refine v_iconst (pc := 22) hO dX4_isHeldInDraft_22 ?_
      refine v_goto (pc := 23) (tgt := 27) hO dX4_isHeldInDraft_23 (by decide) ?_
      refine v_istore_n (pc := 27) hO (lv' := [(3, .inl 1), (0, sref am), (1, .inl x), (2, .inl y)]) dX4_isHeldInDraft_27 (by decide) rfl ?_
      refine v_iconst (pc := 28) hO dX4_isHeldInDraft_28 ?_
      refine v_istore (pc := 29) hO (lv' := [(4, .inl 0), (3, .inl 1), (0, sref am), (1, .inl x), (2, .inl y)]) dX4_isHeldInDraft_29 (by decide) rfl ?_
      refine v_pick (lv2 := [(0, sref am), (1, .inl x), (2, .inl y), (3, .inl (b2i true)), (4, .inl 0)]) [2, 3, 4, 1, 0] rfl ?_
      refine v_loop (σ := Int × Bool) (fun (i, Hb) => 0 ≤ i ∧ i ≤ D 2 ∧ dhlM D x y = (Hb || anyI (dhlP D x y) (D 2 - i).toNat i)) (fun (i, Hb) => (D 2 - i).toNat) (fun (i, Hb) => h) (fun (i, Hb) => [(0, sref am), (1, .inl x), (2, .inl y), (3, .inl (b2i Hb)), (4, .inl i)]) (0, true) ⟨Int.le_refl _, (by omega), (by unfold dhlM; rw [decide_eq_true (p := D 10 = x ∧ D 11 = y) (by omega)])⟩ ?_
      rintro ⟨i, Hb⟩ ⟨hi0, hi1, hg⟩ ih
      show VV X G A _ _ _ h _ _ 31 [(0, sref am), (1, .inl x), (2, .inl y), (3, .inl (b2i Hb)), (4, .inl i)] []
      refine v_iload (pc := 31) hO dX4_isHeldInDraft_31 rfl ?_
      refine v_aload_n (pc := 33) hO dX4_isHeldInDraft_33 rfl ?_
      refine v_getf (pc := 34) (v := sref (ad 1)) hO cp_X4 1 q2126 hr.ob (by decide) rfl dX4_isHeldInDraft_34 ?_
      refine v_iconst (pc := 37) hO dX4_isHeldInDraft_37 ?_
      refine r_iald (pc := 38) (w := D 2) (L := 3934) hO hr 1 ri_1 rfl rfl (by omega) (by omega) dX4_isHeldInDraft_38 ?_
      refine v_icmp_ge (pc := 39) (tgt := 86) hO dX4_isHeldInDraft_39 (by decide) (by first | assumption | exact hDz _ | (unfold zR; omega)) (by first | assumption | exact hDz _ | (unfold zR; omega)) (fun c39 => ?_) (fun c39 => ?_)
      · refine v_iload_n (pc := 86) hO dX4_isHeldInDraft_86 rfl ?_
        exact v_zret hO dX4_isHeldInDraft_87 rfl (nar_z (b2i_c _)) (Nat.le_of_ble_eq_true rfl) (Nat.le_of_ble_eq_true rfl) ⟨congrArg (fun z => some (Sum.inl z)) (by rw [Bool.decide_eq_true, hg, anyI_e (by omega), Bool.or_false]), rfl⟩
      · refine v_iload_n (pc := 42) hO dX4_isHeldInDraft_42 rfl ?_
        refine v_aload_n (pc := 43) hO dX4_isHeldInDraft_43 rfl ?_
        refine v_getf (pc := 44) (v := sref (ad 1)) hO cp_X4 1 q2126 hr.ob (by decide) rfl dX4_isHeldInDraft_44 ?_
        refine v_iload (pc := 47) hO dX4_isHeldInDraft_47 rfl ?_
        refine v_iconst (pc := 49) hO dX4_isHeldInDraft_49 ?_
        refine v_callS (pc := 50) hO (m_unitAt i 0) (lw_S q2238 q2239 q117 q2240) yo_X4_unitAt rfl rfl (by decide) (by decide) (k2 := 0) (n2 := 0) (by decide) (by decide) (by decide) (by decide) dX4_isHeldInDraft_50 (fun va hv hp hf1 => ?_)
        obtain ⟨rfl, rfl⟩ := hp
        refine r_iald (pc := 53) (w := D (12 + 4 * i + 0)) (L := 3934) hO hr 1 ri_1 rfl rfl (by omega) (by omega) dX4_isHeldInDraft_53 ?_
        refine v_iload_n (pc := 54) hO dX4_isHeldInDraft_54 rfl ?_
        refine v_icmp_ne (pc := 55) (tgt := 77) hO dX4_isHeldInDraft_55 (by decide) (by first | assumption | exact hDz _ | (unfold zR; omega)) (by first | assumption | exact hDz _ | (unfold zR; omega)) (fun c55 => ?_) (fun c55 => ?_)
        · refine v_iconst (pc := 77) hO dX4_isHeldInDraft_77 ?_
          refine v_ior0 (pc := 78) hO dX4_isHeldInDraft_78 ?_
          refine v_istore_n (pc := 79) hO (lv' := [(3, .inl (b2i Hb)), (0, sref am), (1, .inl x), (2, .inl y), (4, .inl i)]) dX4_isHeldInDraft_79 (by decide) rfl ?_
          refine v_iinc (pc := 80) hO (lv' := [(4, .inl (i + 1)), (3, .inl (b2i Hb)), (0, sref am), (1, .inl x), (2, .inl y)]) dX4_isHeldInDraft_80 rfl (by decide) rfl ?_
          refine v_goto (pc := 83) (tgt := 31) hO dX4_isHeldInDraft_83 (by decide) ?_
          refine v_pick (lv2 := [(0, sref am), (1, .inl x), (2, .inl y), (3, .inl (b2i Hb)), (4, .inl ((i + 1)))]) [2, 3, 4, 1, 0] rfl ?_
          exact ih (i + 1, Hb) ⟨(by omega), (by omega), (by rw [hg, anyI_s (show i < D 2 by omega), show dhlP D x y i = false from decide_eq_false (by omega)]; cases Hb <;> rfl)⟩ (by show (D 2 - (i + 1)).toNat < (D 2 - i).toNat; omega)
        · refine v_aload_n (pc := 58) hO dX4_isHeldInDraft_58 rfl ?_
          refine v_getf (pc := 59) (v := sref (ad 1)) hO cp_X4 1 q2126 hr.ob (by decide) rfl dX4_isHeldInDraft_59 ?_
          refine v_iload (pc := 62) hO dX4_isHeldInDraft_62 rfl ?_
          refine v_iconst (pc := 64) hO dX4_isHeldInDraft_64 ?_
          refine v_callS (pc := 65) hO (m_unitAt i 1) (lw_S q2238 q2239 q117 q2240) yo_X4_unitAt rfl rfl (by decide) (by decide) (k2 := 0) (n2 := 0) (by decide) (by decide) (by decide) (by decide) dX4_isHeldInDraft_65 (fun va hv hp hf1 => ?_)
          obtain ⟨rfl, rfl⟩ := hp
          refine r_iald (pc := 68) (w := D (12 + 4 * i + 1)) (L := 3934) hO hr 1 ri_1 rfl rfl (by omega) (by omega) dX4_isHeldInDraft_68 ?_
          refine v_iload_n (pc := 69) hO dX4_isHeldInDraft_69 rfl ?_
          refine v_icmp_ne (pc := 70) (tgt := 77) hO dX4_isHeldInDraft_70 (by decide) (by first | assumption | exact hDz _ | (unfold zR; omega)) (by first | assumption | exact hDz _ | (unfold zR; omega)) (fun c70 => ?_) (fun c70 => ?_)
          · refine v_iconst (pc := 77) hO dX4_isHeldInDraft_77 ?_
            refine v_ior0 (pc := 78) hO dX4_isHeldInDraft_78 ?_
            refine v_istore_n (pc := 79) hO (lv' := [(3, .inl (b2i Hb)), (0, sref am), (1, .inl x), (2, .inl y), (4, .inl i)]) dX4_isHeldInDraft_79 (by decide) rfl ?_
            refine v_iinc (pc := 80) hO (lv' := [(4, .inl (i + 1)), (3, .inl (b2i Hb)), (0, sref am), (1, .inl x), (2, .inl y)]) dX4_isHeldInDraft_80 rfl (by decide) rfl ?_
            refine v_goto (pc := 83) (tgt := 31) hO dX4_isHeldInDraft_83 (by decide) ?_
            refine v_pick (lv2 := [(0, sref am), (1, .inl x), (2, .inl y), (3, .inl (b2i Hb)), (4, .inl ((i + 1)))]) [2, 3, 4, 1, 0] rfl ?_
            exact ih (i + 1, Hb) ⟨(by omega), (by omega), (by rw [hg, anyI_s (show i < D 2 by omega), show dhlP D x y i = false from decide_eq_false (by omega)]; cases Hb <;> rfl)⟩ (by show (D 2 - (i + 1)).toNat < (D 2 - i).toNat; omega)
          · refine v_iconst (pc := 73) hO dX4_isHeldInDraft_73 ?_
            refine v_goto (pc := 74) (tgt := 78) hO dX4_isHeldInDraft_74 (by decide) ?_
            refine v_ior1 (pc := 78) hO dX4_isHeldInDraft_78 ?_
            refine v_istore_n (pc := 79) hO (lv' := [(3, .inl (b2i true)), (0, sref am), (1, .inl x), (2, .inl y), (4, .inl i)]) dX4_isHeldInDraft_79 (by decide) rfl ?_
            refine v_iinc (pc := 80) hO (lv' := [(4, .inl (i + 1)), (3, .inl (b2i true)), (0, sref am), (1, .inl x), (2, .inl y)]) dX4_isHeldInDraft_80 rfl (by decide) rfl ?_
            refine v_goto (pc := 83) (tgt := 31) hO dX4_isHeldInDraft_83 (by decide) ?_
            refine v_pick (lv2 := [(0, sref am), (1, .inl x), (2, .inl y), (3, .inl (b2i true)), (4, .inl ((i + 1)))]) [2, 3, 4, 1, 0] rfl ?_
            exact ih (i + 1, true) ⟨(by omega), (by omega), (by rw [hg, anyI_s (show i < D 2 by omega), show dhlP D x y i = true from decide_eq_true (by omega)]; cases Hb <;> rfl)⟩ (by show (D 2 - (i + 1)).toNat < (D 2 - i).toNat; omega)
