/-! FLOATING POINT: what is not a NaN -/
set_option maxRecDepth 100000
def fpOK : FP.Core.Datum → Bool
  | .fin _ d _ => decide (d ≠ 0)
  | _ => false
theorem fpOK_x : ∀ {b : FP.Core.Datum}, fpOK b = true → ∃ t d r, b = .fin t d r ∧ d ≠ 0
  | .fin t d r, h => ⟨t, d, r, rfl, of_decide_eq_true h⟩
def okD64 : FP.Core.Datum → Prop
  | .nan => False
  | .inf _ => True
  | .fin _ c q => c < 9007199254740992 ∧ (-1074) ≤ q ∧ q ≤ 971
theorem fp_rr64 {s : Bool} {a b : Nat} {e : Int} : okD64 (FP.Core.roundRatio FP.Core.b64 s a b e) := by
  unfold FP.Core.roundRatio
  split
  · exact ⟨by decide, by decide, by decide⟩
  · unfold FP.Core.roundAt
    have hq : (-1074 : Int) ≤ FP.Core.quantum FP.Core.b64 a b e := by
      unfold FP.Core.quantum
      exact Int.le_trans (by decide) (Int.le_max_left _ _)
    revert hq
    generalize FP.Core.quantum FP.Core.b64 a b e = q
    intro hq
    generalize FP.Core.nearest _ _ = c
    unfold FP.Core.settle FP.Core.bound
    have e1 : (2 : Nat) ^ FP.Core.b64.p = 9007199254740992 := by decide
    have e2 : FP.Core.b64.qmax = 971 := by decide
    have e3 : FP.Core.b64.tails = 4503599627370496 := by decide
    rw [e1, e2, e3]
    split
    · split
      · exact ⟨by omega, by omega, by omega⟩
      · trivial
    · split
      · exact ⟨by omega, by omega, by omega⟩
      · trivial
theorem fp_enc64 {d : FP.Core.Datum} (h : okD64 d) : FP.Core.encode FP.Core.b64 d % 9223372036854775808 ≤ 9218868437227405312 := by
  have e3 : FP.Core.b64.tails = 4503599627370496 := by decide
  have e4 : FP.Core.b64.exps = 2048 := by decide
  have e5 : FP.Core.b64.qmin = (-1074) := by decide
  cases d with
  | nan => exact h.elim
  | inf s =>
    show ((s.toNat * FP.Core.b64.exps + (FP.Core.b64.exps - 1)) * FP.Core.b64.tails + 0) % _ ≤ _
    rw [e3, e4]
    cases s
    · show (((0 : Nat) * 2048 + (2048 - 1)) * 4503599627370496 + 0) % 9223372036854775808 ≤ _
      omega
    · show (((1 : Nat) * 2048 + (2048 - 1)) * 4503599627370496 + 0) % 9223372036854775808 ≤ _
      omega
  | fin s c q =>
    obtain ⟨h1, h2, h3⟩ := h
    show (if c < FP.Core.b64.tails then (s.toNat * FP.Core.b64.exps + 0) * FP.Core.b64.tails + c else (s.toNat * FP.Core.b64.exps + ((q - FP.Core.b64.qmin).toNat + 1)) * FP.Core.b64.tails + (c - FP.Core.b64.tails)) % _ ≤ _
    rw [e3, e4, e5]
    split
    · cases s
      · show (((0 : Nat) * 2048 + 0) * 4503599627370496 + c) % 9223372036854775808 ≤ _
        omega
      · show (((1 : Nat) * 2048 + 0) * 4503599627370496 + c) % 9223372036854775808 ≤ _
        omega
    · cases s
      · show (((0 : Nat) * 2048 + ((q - (-1074)).toNat + 1)) * 4503599627370496 + (c - 4503599627370496)) % 9223372036854775808 ≤ _
        omega
      · show (((1 : Nat) * 2048 + ((q - (-1074)).toNat + 1)) * 4503599627370496 + (c - 4503599627370496)) % 9223372036854775808 ≤ _
        omega
theorem fp_n64 {n : Nat} (h : n % 9223372036854775808 ≤ 9218868437227405312) : vf_n64 (UInt64.ofNat n) := by
  unfold vf_n64
  show (UInt64.ofNat n &&& 0x7fffffffffffffff).toNat ≤ (0x7ff0000000000000 : UInt64).toNat
  rw [UInt64.toNat_and, show (0x7fffffffffffffff : UInt64).toNat = 2 ^ 63 - 1 from rfl, Nat.and_two_pow_sub_one_eq_mod, show (0x7ff0000000000000 : UInt64).toNat = 9218868437227405312 from rfl, show (UInt64.ofNat n).toNat = n % 18446744073709551616 from rfl]
  omega
theorem fp_dec64 {n : Nat} (h : n % 9223372036854775808 ≤ 9218868437227405312) : FP.Core.decode FP.Core.b64 (UInt64.ofNat n).toNat ≠ .nan := by
  rw [show (UInt64.ofNat n).toNat = n % 18446744073709551616 from rfl]
  intro hh
  unfold FP.Core.decode at hh
  have g1 : FP.Core.fieldE FP.Core.b64 (n % 18446744073709551616) = n % 18446744073709551616 / 4503599627370496 % 2048 := by
    show n % 18446744073709551616 / FP.Core.b64.tails % FP.Core.b64.exps = _
    rw [show FP.Core.b64.tails = 4503599627370496 by decide, show FP.Core.b64.exps = 2048 by decide]
  have g2 : FP.Core.fieldT FP.Core.b64 (n % 18446744073709551616) = n % 18446744073709551616 % 4503599627370496 := by
    show n % 18446744073709551616 % FP.Core.b64.tails = _
    rw [show FP.Core.b64.tails = 4503599627370496 by decide]
  rw [g1, g2, show FP.Core.b64.exps = 2048 by decide] at hh
  split at hh
  · rw [if_pos (by omega)] at hh; cases hh
  · split at hh <;> cases hh
theorem fp_q64 {a b : FP.Core.Datum} (ha : a ≠ .nan) (hb : ∃ t d r, b = .fin t d r ∧ d ≠ 0) : okD64 (FP.Core.quotient FP.Core.b64 a b) := by
  obtain ⟨t, d, r, rfl, hd⟩ := hb
  cases a with
  | nan => exact absurd rfl ha
  | inf s => trivial
  | fin s c q =>
    show okD64 (if d = 0 then _ else _)
    rw [if_neg hd]; exact fp_rr64
theorem fp_40_64 : ∀ b : Fin 41, b.val ≠ 0 → fpOK (FP.Core.decode FP.Core.b64 (FP.i2d (Int32.ofInt (b.val : Int))).toNat) = true := by decide +kernel
theorem fp_ddiv {a b : Int} (h0 : 1 ≤ b) (h1 : b ≤ 40) : vf_n64 (FP.ddiv (FP.i2d (zi a)) (FP.i2d (zi b))) := by
  refine fp_n64 (fp_enc64 (fp_q64 (fp_dec64 (fp_enc64 fp_rr64)) (fpOK_x ?_)))
  have e := fp_40_64 ⟨b.toNat, by omega⟩ (by show b.toNat ≠ 0; omega)
  rw [show ((⟨b.toNat, by omega⟩ : Fin 41).val : Int) = b from by show ((b.toNat : Nat) : Int) = b; omega] at e
  exact e
def okD32 : FP.Core.Datum → Prop
  | .nan => False
  | .inf _ => True
  | .fin _ c q => c < 16777216 ∧ (-149) ≤ q ∧ q ≤ 104
theorem fp_rr32 {s : Bool} {a b : Nat} {e : Int} : okD32 (FP.Core.roundRatio FP.Core.b32 s a b e) := by
  unfold FP.Core.roundRatio
  split
  · exact ⟨by decide, by decide, by decide⟩
  · unfold FP.Core.roundAt
    have hq : (-149 : Int) ≤ FP.Core.quantum FP.Core.b32 a b e := by
      unfold FP.Core.quantum
      exact Int.le_trans (by decide) (Int.le_max_left _ _)
    revert hq
    generalize FP.Core.quantum FP.Core.b32 a b e = q
    intro hq
    generalize FP.Core.nearest _ _ = c
    unfold FP.Core.settle FP.Core.bound
    have e1 : (2 : Nat) ^ FP.Core.b32.p = 16777216 := by decide
    have e2 : FP.Core.b32.qmax = 104 := by decide
    have e3 : FP.Core.b32.tails = 8388608 := by decide
    rw [e1, e2, e3]
    split
    · split
      · exact ⟨by omega, by omega, by omega⟩
      · trivial
    · split
      · exact ⟨by omega, by omega, by omega⟩
      · trivial
theorem fp_enc32 {d : FP.Core.Datum} (h : okD32 d) : FP.Core.encode FP.Core.b32 d % 2147483648 ≤ 2139095040 := by
  have e3 : FP.Core.b32.tails = 8388608 := by decide
  have e4 : FP.Core.b32.exps = 256 := by decide
  have e5 : FP.Core.b32.qmin = (-149) := by decide
  cases d with
  | nan => exact h.elim
  | inf s =>
    show ((s.toNat * FP.Core.b32.exps + (FP.Core.b32.exps - 1)) * FP.Core.b32.tails + 0) % _ ≤ _
    rw [e3, e4]
    cases s
    · show (((0 : Nat) * 256 + (256 - 1)) * 8388608 + 0) % 2147483648 ≤ _
      omega
    · show (((1 : Nat) * 256 + (256 - 1)) * 8388608 + 0) % 2147483648 ≤ _
      omega
  | fin s c q =>
    obtain ⟨h1, h2, h3⟩ := h
    show (if c < FP.Core.b32.tails then (s.toNat * FP.Core.b32.exps + 0) * FP.Core.b32.tails + c else (s.toNat * FP.Core.b32.exps + ((q - FP.Core.b32.qmin).toNat + 1)) * FP.Core.b32.tails + (c - FP.Core.b32.tails)) % _ ≤ _
    rw [e3, e4, e5]
    split
    · cases s
      · show (((0 : Nat) * 256 + 0) * 8388608 + c) % 2147483648 ≤ _
        omega
      · show (((1 : Nat) * 256 + 0) * 8388608 + c) % 2147483648 ≤ _
        omega
    · cases s
      · show (((0 : Nat) * 256 + ((q - (-149)).toNat + 1)) * 8388608 + (c - 8388608)) % 2147483648 ≤ _
        omega
      · show (((1 : Nat) * 256 + ((q - (-149)).toNat + 1)) * 8388608 + (c - 8388608)) % 2147483648 ≤ _
        omega
theorem fp_n32 {n : Nat} (h : n % 2147483648 ≤ 2139095040) : vf_n32 (UInt32.ofNat n) := by
  unfold vf_n32
  show (UInt32.ofNat n &&& 0x7fffffff).toNat ≤ (0x7f800000 : UInt32).toNat
  rw [UInt32.toNat_and, show (0x7fffffff : UInt32).toNat = 2 ^ 31 - 1 from rfl, Nat.and_two_pow_sub_one_eq_mod, show (0x7f800000 : UInt32).toNat = 2139095040 from rfl, show (UInt32.ofNat n).toNat = n % 4294967296 from rfl]
  omega
theorem fp_dec32 {n : Nat} (h : n % 2147483648 ≤ 2139095040) : FP.Core.decode FP.Core.b32 (UInt32.ofNat n).toNat ≠ .nan := by
  rw [show (UInt32.ofNat n).toNat = n % 4294967296 from rfl]
  intro hh
  unfold FP.Core.decode at hh
  have g1 : FP.Core.fieldE FP.Core.b32 (n % 4294967296) = n % 4294967296 / 8388608 % 256 := by
    show n % 4294967296 / FP.Core.b32.tails % FP.Core.b32.exps = _
    rw [show FP.Core.b32.tails = 8388608 by decide, show FP.Core.b32.exps = 256 by decide]
  have g2 : FP.Core.fieldT FP.Core.b32 (n % 4294967296) = n % 4294967296 % 8388608 := by
    show n % 4294967296 % FP.Core.b32.tails = _
    rw [show FP.Core.b32.tails = 8388608 by decide]
  rw [g1, g2, show FP.Core.b32.exps = 256 by decide] at hh
  split at hh
  · rw [if_pos (by omega)] at hh; cases hh
  · split at hh <;> cases hh
theorem fp_q32 {a b : FP.Core.Datum} (ha : a ≠ .nan) (hb : ∃ t d r, b = .fin t d r ∧ d ≠ 0) : okD32 (FP.Core.quotient FP.Core.b32 a b) := by
  obtain ⟨t, d, r, rfl, hd⟩ := hb
  cases a with
  | nan => exact absurd rfl ha
  | inf s => trivial
  | fin s c q =>
    show okD32 (if d = 0 then _ else _)
    rw [if_neg hd]; exact fp_rr32
theorem fp_40_32 : ∀ b : Fin 41, b.val ≠ 0 → fpOK (FP.Core.decode FP.Core.b32 (FP.i2f (Int32.ofInt (b.val : Int))).toNat) = true := by decide +kernel
theorem fp_fdiv {a b : Int} (h0 : 1 ≤ b) (h1 : b ≤ 40) : vf_n32 (FP.fdiv (FP.i2f (zi a)) (FP.i2f (zi b))) := by
  refine fp_n32 (fp_enc32 (fp_q32 (fp_dec32 (fp_enc32 fp_rr32)) (fpOK_x ?_)))
  have e := fp_40_32 ⟨b.toNat, by omega⟩ (by show b.toNat ≠ 0; omega)
  rw [show ((⟨b.toNat, by omega⟩ : Fin 41).val : Int) = b from by show ((b.toNat : Nat) : Int) = b; omega] at e
  exact e
