/-! WHAT STANDS FROM THE START: static fields, literals, their bytes -/
set_option maxRecDepth 100000
abbrev oldA (G : GT) : Nat → Prop := fun q => gN G ≤ q
abbrev TT (G : GT) (ty : FieldType) (t N : Nat) (f : Nat → Value) : Prop := va_T ty t N f (oldA G) (gs G) (gs G).heap
abbrev ZZ (G : GT) (C n d : String) (v : Value) : Prop := va_Z C n d v (oldA G) (gs G) (gs G).heap
abbrev OO (G : GT) (E : String) (t : Nat) : Prop := va_O E t (oldA G) (gs G) (gs G).heap
abbrev OFo (G : GT) (o n d : String) (v : Value) (t : Nat) : Prop := va_OF o n d v t (oldA G) (gs G) (gs G).heap
section VOld
variable {X : XT} {G : GT} {A : Nat → Prop} {h0 : AH} {cc : ByteArray} {nL : Nat} {own : String} {rm : Room} {ret : Option FieldType} {Q : State → Prop} {h : AH} {k n : Nat} {pc : Nat} {lv : List (Nat × SV)} {st : List SV}
theorem old_heap (hO : OKX X G A cc nL own rm ret) {H : Heap} {locs : List Loc} (hR : Rep G H h) (hS : va_S A (xs X).heap H locs) : ∀ a : Nat, a < (gs G).heap.size → ¬ oldA G a → (xs X).heap[a]? = (gs G).heap[a]? := by
  intro a ha _
  have h1 : a < gN G := ha
  have h2 : a < (xs X).heap.size := by
    rcases Nat.lt_or_ge a (xs X).heap.size with q | q
    · exact q
    · exact absurd (hO.A2 a (hO.A1 a q)) (by omega)
  rw [← hS.2.1 a h2 (fun z => absurd (hO.A2 a z) (by omega))]
  exact hR.2.1 a h1
theorem tt_at (hO : OKX X G A cc nL own rm ret) {H : Heap} {locs : List Loc} (hR : Rep G H h) (hS : va_S A (xs X).heap H locs) {ty : FieldType} {t N : Nat} {f : Nat → Value} (hT : TT G ty t N f) : va_T ty t N f A (xs X) (xs X).heap :=
  ((hT.moved hO.kk.2.alike).kept (old_heap hO hR hS)).narrow hO.A2
theorem zz_at (hO : OKX X G A cc nL own rm ret) {H : Heap} {locs : List Loc} (hR : Rep G H h) (hS : va_S A (xs X).heap H locs) {C m d : String} {v : Value} (hT : ZZ G C m d v) : va_Z C m d v A (xs X) (xs X).heap :=
  ((hT.moved hO.kk.2.alike).kept (old_heap hO hR hS)).narrow hO.A2
theorem of_at (hO : OKX X G A cc nL own rm ret) {H : Heap} {locs : List Loc} (hR : Rep G H h) (hS : va_S A (xs X).heap H locs) {o m d : String} {v : Value} {t : Nat} (hT : OFo G o m d v t) : va_OF o m d v t A (xs X) (xs X).heap :=
  ((hT.moved hO.kk.2.alike).kept (old_heap hO hR hS)).narrow hO.A2
/-- getstatic of what stands from the start -/
theorem v_gets (hO : OKX X G A cc nL own rm ret) {C m d : String} {v : SV} {ix : Nat} (hZ : ZZ G C m d (zv v)) (hq : Cond.fieldLink own ix C m d ∈ lw_all) (dd : decode cc pc = .ok (.getstatic ix, 3)) (kk : VV X G A h0 nL Q h k n (pc + 3) lv (v :: st)) : VV X G A h0 nL Q h k n pc lv st := by
  intro H locs ls hR hS hf hL
  exact va_gets hO.x hO.b (zz_at hO hR hS hZ) hS hO.ow (hO.ts _ hq) (fun _ e => e) dd (kk H locs ls hR hS hf hL)
theorem v_sgetf (hO : OKX X G A cc nL own rm ret) {o m d : String} {v : SV} {t ix : Nat} (hE : OFo G o m d (zv v) t) (hq : Cond.fieldLink own ix o m d ∈ lw_all) (dd : decode cc pc = .ok (.getfield ix, 3)) (kk : VV X G A h0 nL Q h k n (pc + 3) lv (v :: st)) : VV X G A h0 nL Q h k n pc lv (sref t :: st) := by
  intro H locs ls hR hS hf hL
  exact vk_getf hO.x hO.b (of_at hO hR hS hE) hS hO.ow (hO.ts _ hq) (fun _ e => e) dd (kk H locs ls hR hS hf hL)
theorem v_tlen (hO : OKX X G A cc nL own rm ret) {ty : FieldType} {t N : Nat} {f : Nat → Value} (hT : TT G ty t N f) (dd : decode cc pc = .ok (.arraylength, 1)) (kk : VV X G A h0 nL Q h k n (pc + 1) lv (.inl (N : Int) :: st)) : VV X G A h0 nL Q h k n pc lv (sref t :: st) := by
  intro H locs ls hR hS hf hL
  exact va_tlen hO.x hO.b (tt_at hO hR hS hT) hS rfl dd (kk H locs ls hR hS hf hL)
theorem zi_in2 {z : Int} {N : Nat} (h0 : 0 ≤ z) (h1 : z < N) (h2 : z < 2147483648) : vp_in (zi z) N ∧ (zi z).toNatClampNeg = z.toNat := by
  have e : (zi z).toInt = z := zi_toInt (by unfold zR; omega)
  have e2 : (zi z).toNatClampNeg = z.toNat := by show (zi z).toInt.toNat = _; rw [e]
  refine ⟨fun q => ?_, e2⟩
  rcases q with q | q
  · have := Int32.lt_iff_toInt_lt.mp q
    rw [e] at this
    exact absurd this (by show ¬ z < 0; omega)
  · rw [e2] at q; omega
theorem v_tbald (hO : OKX X G A cc nL own rm ret) {t N : Nat} {f : Nat → Value} {z w : Int} (hT : TT G .byte t N f) (h1 : 0 ≤ z) (h2 : z < N) (h3 : z < 2147483648) (hv : f z.toNat = .int (zi w)) (dd : decode cc pc = .ok (.baload, 1)) (kk : VV X G A h0 nL Q h k n (pc + 1) lv (.inl w :: st)) : VV X G A h0 nL Q h k n pc lv (.inl z :: sref t :: st) := by
  intro H locs ls hR hS hf hL
  obtain ⟨g1, g2⟩ := zi_in2 h1 h2 h3
  exact va_tb hO.x hO.b (tt_at hO hR hS hT) hS g1 (by rw [g2]; exact hv) dd (kk H locs ls hR hS hf hL)
theorem v_tiald (hO : OKX X G A cc nL own rm ret) {t N : Nat} {f : Nat → Value} {z w : Int} (hT : TT G .int t N f) (h1 : 0 ≤ z) (h2 : z < N) (h3 : z < 2147483648) (hv : f z.toNat = .int (zi w)) (dd : decode cc pc = .ok (.iaload, 1)) (kk : VV X G A h0 nL Q h k n (pc + 1) lv (.inl w :: st)) : VV X G A h0 nL Q h k n pc lv (.inl z :: sref t :: st) := by
  intro H locs ls hR hS hf hL
  obtain ⟨g1, g2⟩ := zi_in2 h1 h2 h3
  exact va_ti hO.x hO.b (tt_at hO hR hS hT) hS g1 (by rw [g2]; exact hv) dd (kk H locs ls hR hS hf hL)
/-- ldc of a literal: t is where the entry's String stands -/
theorem v_ldcS (hO : OKX X G A cc nL own rm ret) {tx : String} {t ix : Nat} (hq : Cond.stringRef own ix tx ∈ lw_tbl) (ht : (Term.string own ix).eval #[Value.ref (gb G)] (gs G) none [] (gs G) = some (.ref t)) (dd : decode cc pc = .ok (.ldc ix, 2)) (kk : VV X G A h0 nL Q h k n (pc + 2) lv (sref t :: st)) : VV X G A h0 nL Q h k n pc lv st := by
  intro H locs ls hR hS hf hL
  exact va_ldcS hO.x hO.b hO.ow (vk_R.warm hO.kk.2 (vk_R.of (hO.kk.1.1 _ hq) ht)) dd (kk H locs ls hR hS hf hL)
end VOld
/-- what a receiver is: its cell, of class C -/
def Rcv (G : GT) (h : AH) (b : Nat) (C : String) : Prop := ∀ (H : Heap) (s : State), Rep G H h → KK G s → ∃ cell : Cell, H[b]? = some cell ∧ cell.vm.isStatics = false ∧ s.vm.findClass C = some cell.cls
theorem Rcv.ob {G : GT} {h : AH} {b ci N : Nat} {C : String} {T : u_T} {fs : List SV} (hC : CP ci C T N) (hb : h b = some (eo ci fs)) : Rcv G h b C := fun _ _ hR hK => hR.recv hK hC hb
theorem Rcv.old {G : GT} {h : AH} {b : Nat} {C : String} (hb : OO G C b) : Rcv G h b C := by
  intro H s hR hK
  obtain ⟨cell, h1, h2, h3, -⟩ := (va_O.moved (U := s) hK.2.alike hb).kept (H1 := H) (fun a ha _ => hR.2.1 a ha)
  exact ⟨cell, h1, h2, h3⟩
/-- a literal: the String at t, its bytes -/
def Lit1 (G : GT) (t : Nat) (bs : List Int) : Prop := OO G "java/lang/String" t ∧ OFo G "java/lang/String" "coder" "B" (.int 0) t ∧ ∃ v, OFo G "java/lang/String" "value" "[B" (.ref v) t ∧ TT G .byte v bs.length (fun j => .int (zi (bs.getD j 0)))
