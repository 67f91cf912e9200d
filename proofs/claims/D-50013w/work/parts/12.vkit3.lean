/-! V-ROWS: fields, arrays, new -/
set_option maxRecDepth 100000
def CP (ci : Nat) (C : String) (T : u_T) (N : Nat) : Prop := clAll[ci]? = some (C, T, N) ∧ (∀ w ∈ u_ws C T N, w ∈ lw_all) ∧ ∃ ty : Nat → FieldType, ∀ j, j < N → parseFieldDescriptor (T j).2.2.1 = some (ty j)
def CPn (T : u_T) (N : Nat) : Prop := ∀ a, a < N → ∀ b, b < N → a ≠ b → (T a).2.1 ≠ (T b).2.1
/-- an object of the class of number ci -/
def eo (ci : Nat) (fs : List SV) : va_E := .inr (ci, fs.map zv)
def eI (G : GT) (N : Nat) (g : Int → Int) : va_E := .inl (gC G 0, N, .inl (fun j => zi (g j)))
def eZ (G : GT) (N : Nat) (g : Int → Int) : va_E := .inl (gC G 1, N, .inl (fun j => zi (g j)))
def eB (G : GT) (N : Nat) (g : Int → Int) : va_E := .inl (gC G 2, N, .inl (fun j => zi (g j)))
def eJ (G : GT) (N : Nat) (g : Int → Int) : va_E := .inl (gC G 3, N, .inr (.inl (fun j => zl (g j))))
def eL (G : GT) (N : Nat) (g : Int → Option Nat) : va_E := .inl (gC G 4, N, .inr (.inr (.inr (.inr (fun j => g j)))))
def eS (G : GT) (N : Nat) (g : Int → Option Nat) : va_E := .inl (gC G 5, N, .inr (.inr (.inr (.inr (fun j => g j)))))
def zupd {α : Type} (g : Int → α) (z : Int) (v : α) : Int → α := fun j => if j = z then v else g j
theorem zupd_s {α : Type} (g : Int → α) (z : Int) (v : α) : zupd g z v z = v := if_pos rfl
theorem zupd_n {α : Type} {g : Int → α} {z j : Int} {v : α} (hn : j ≠ z) : zupd g z v j = g j := if_neg hn
/-- a reference or null -/
def zr (r : Option Nat) : SV := .inr (va_rf r)
theorem zr_s (a : Nat) : zr (some a) = sref a := rfl
theorem zr_n : zr none = snull := rfl
section VHeap
variable {X : XT} {G : GT} {A : Nat → Prop} {h0 : AH} {cc : ByteArray} {nL : Nat} {own : String} {rm : Room} {ret : Option FieldType} {Q : State → Prop} {h : AH} {k n : Nat} {pc : Nat} {lv : List (Nat × SV)} {st : List SV}
theorem zv_get {fs : List SV} {j : Nat} {v : SV} (hv : fs[j]? = some v) : (fs.map zv)[j]? = some (zv v) := by
  rw [List.getElem?_map, hv]; rfl
theorem zv_set (fs : List SV) (j : Nat) (v : SV) : (fs.set j v).map zv = (fs.map zv).set j (zv v) := List.map_set
theorem KK.nest {G : GT} {U : State} (hK : KK G U) {w : Cond} (hw : w ∈ lw_tbl) : w.before #[Value.ref (gb G)] (gs G) = true := hK.1.1 w hw
theorem KK.castable {G : GT} {U : State} (hK : KK G U) {C T : String} (hw : (Cond.castable C T) ∈ lw_tbl) : va_Nw (.castable C T) U := va_Nw.warmC hK.2 (va_Nw.of rfl (hK.nest hw))
theorem KK.fieldN {G : GT} {U : State} (hK : KK G U) {a : String} {i : Nat} {b n d h : String} (hw : (Cond.fieldLinkNest a i b n d h) ∈ lw_tbl) : va_Nw (.fieldLinkNest a i b n d h) U := va_Nw.warmF hK.2 (va_Nw.of rfl (hK.nest hw))
theorem KK.methN {G : GT} {U : State} (hK : KK G U) {a : String} {i : Nat} {y : MethodName} {h : String} (hw : (Cond.methodLinkNest a i y h) ∈ lw_tbl) : va_Nw (.methodLinkNest a i y h) U := va_Nw.warmM hK.2 (va_Nw.of rfl (hK.nest hw))
theorem KK.over {G : GT} {U : State} (hK : KK G U) {C : String} (hw : (Cond.arrayOver (.object C)) ∈ lw_tbl) : va_AO C U := va_AO.moved hK.2.alike (va_AO.of (hK.nest hw))
/-- an object's cell, with its class -/
theorem Rep.recv {G : GT} {H : Heap} {h : AH} {U : State} (hR : Rep G H h) (hK : KK G U) {ci : Nat} {C : String} {T : u_T} {N : Nat} (hC : CP ci C T N) {a : Nat} {fs : List SV} (ha : h a = some (eo ci fs)) : ∃ cell : Cell, H[a]? = some cell ∧ cell.vm.isStatics = false ∧ U.vm.findClass C = some cell.cls := va_recv hK.K (hR.P ha) hC.1 (q0 := 0) rfl
theorem frame_up {A : Nat → Prop} {h h0 : AH} {a : Nat} {e : va_E} (hf : ∀ a, ¬ A a → h a = h0 a) (hA : A a) : ∀ b, ¬ A b → zup h a e b = h0 b := fun b hb => by
  by_cases hba : b = a
  · subst hba; exact absurd hA hb
  · rw [zup_n hba]; exact hf b hb

theorem v_getf (hO : OKX X G A cc nL own rm ret) {ci : Nat} {C : String} {T : u_T} {N : Nat} (hC : CP ci C T N) {a : Nat} {fs : List SV} {v : SV} (j : Nat) {ix : Nat} (hq : Cond.fieldLink own ix (T j).1 (T j).2.1 (T j).2.2.1 ∈ lw_all) (ha : h a = some (eo ci fs)) (hj : j < N) (hv : fs[j]? = some v) (d : decode cc pc = .ok (.getfield ix, 3)) (kk : VV X G A h0 nL Q h k n (pc + 3) lv (v :: st)) : VV X G A h0 nL Q h k n (pc) lv (sref a :: st) := by
  intro H locs ls hR hS hf hL
  exact va_get hO.x hO.b hO.ts hC.2.1 hO.ow hO.K (hR.P ha) 0 rfl hC.1 j hj (hO.ts _ hq) (fun _ e => e) (zv_get hv) d (kk H locs ls hR hS hf hL)
theorem v_getfI (hO : OKX X G A cc nL own rm ret) {ci : Nat} {C : String} {T : u_T} {N : Nat} (hC : CP ci C T N) {a : Nat} {fs : List SV} {v : SV} (j : Nat) {ix : Nat} {ref : String} (hq : Cond.fieldLink own ix ref (T j).2.1 (T j).2.2.1 ∈ lw_all) (hsm : Cond.sameField ref (T j).1 (T j).2.1 (T j).2.2.1 ∈ lw_all) (ha : h a = some (eo ci fs)) (hj : j < N) (hv : fs[j]? = some v) (d : decode cc pc = .ok (.getfield ix, 3)) (kk : VV X G A h0 nL Q h k n (pc + 3) lv (v :: st)) : VV X G A h0 nL Q h k n (pc) lv (sref a :: st) := by
  intro H locs ls hR hS hf hL
  exact va_get hO.x hO.b hO.ts hC.2.1 hO.ow hO.K (hR.P ha) 0 rfl hC.1 j hj (hO.ts _ hq) (u_same (hO.ts _ hsm)) (zv_get hv) d (kk H locs ls hR hS hf hL)
theorem v_getfN (hO : OKX X G A cc nL own rm ret) {ci : Nat} {C : String} {T : u_T} {N : Nat} (hC : CP ci C T N) {a : Nat} {fs : List SV} {v : SV} (j : Nat) {ix : Nat} {host : String} (hq : Cond.fieldLinkNest own ix (T j).1 (T j).2.1 (T j).2.2.1 host ∈ lw_tbl) (ha : h a = some (eo ci fs)) (hj : j < N) (hv : fs[j]? = some v) (d : decode cc pc = .ok (.getfield ix, 3)) (kk : VV X G A h0 nL Q h k n (pc + 3) lv (v :: st)) : VV X G A h0 nL Q h k n (pc) lv (sref a :: st) := by
  intro H locs ls hR hS hf hL
  exact va_getN hO.x hO.b hO.ts hC.2.1 hO.ow hO.K (hR.P ha) 0 rfl hC.1 j hj (va_Nw.use rfl (hO.kk.fieldN hq)) (fun _ e => e) (zv_get hv) d (kk H locs ls hR hS hf hL)
theorem v_putf (hO : OKX X G A cc nL own rm ret) {ci : Nat} {C : String} {T : u_T} {N : Nat} (hC : CP ci C T N) (hnm : CPn T N) {a : Nat} {fs fs2 : List SV} {v : SV} {ty : FieldType} (j : Nat) {ix : Nat} (hq : Cond.fieldLink own ix (T j).1 (T j).2.1 (T j).2.2.1 ∈ lw_all) (ha : h a = some (eo ci fs)) (hA : A a) (hj : j < N) (hfin : (T j).2.2.2 = false) (hd : parseFieldDescriptor (T j).2.2.1 = some ty) (hn : narrow ty (zv v) = zv v) (hfit : fits ty (zv v) = true) (hl : j < fs.length) (hfs : fs.set j v = fs2) (d : decode cc pc = .ok (.putfield ix, 3)) (kk : VV X G A h0 nL Q (zup h a (eo ci fs2)) k n (pc + 3) lv (st)) : VV X G A h0 nL Q h k n (pc) lv (v :: sref a :: st) := by
  subst hfs
  intro H locs ls hR hS hf hL
  obtain ⟨hc, hin, ty0, hty⟩ := hC
  have hap := va_apart (own := own) hO.ts hin ty0 hty hnm hO.K hc
  obtain ⟨hN, r, h1, cell, q1, q2, q3, q4⟩ := hR.2.2 a _ ha
  have hr : r = (C, T, N) := Option.some.inj (h1.symm.trans hc)
  subst hr
  obtain ⟨hSl, hfc, kC, hkC, hkind⟩ := hO.K.1 ci _ hc
  obtain ⟨cf, kf, fi, f, hi, hsl⟩ := hSl j hj
  have hlay := hO.ts _ (hin _ (u_in_lay hj))
  unfold u_lay at hlay
  rw [if_neg (by rw [hfin]; decide)] at hlay
  have hst := (u_facts hfc hkC (u_lays hO.ts hin hj) hi).1
  have h6 := u_store hfc hkC hkind hlay hi hd hn hfit
  refine W.putK hO.x hO.b (f := f) ⟨hO.ow, hO.ts _ hq, ⟨_, _, _, hi⟩, hst⟩ (by rw [q2]; exact h6) q1 q3 (by rw [hsl]; exact k2_hasslot (q4 j hj)) rfl rfl d fun H1 e1 e2 e3 => ?_
  rw [hsl] at e1 ⊢
  refine kk H1 _ ls (hR.set (Nat.le_of_eq e2.symm) hN ⟨_, hc, ?_⟩ (fun q _ hq => e3 q hq)) (hS.put e2 e3 hA) (frame_up hf hA) hL
  show t_OB a _ _ _ H1 (vp_V ((fs.set j v).map zv))
  rw [zv_set]
  exact t_OB.to (V := updV (vp_V (fs.map zv)) j (zv v)) ⟨_, e1, q2, q3, t_set q4 hap hj (zv v)⟩ (fun i _ => vp_updV_set (by rw [List.length_map]; exact hl) (zv v) i)
theorem v_putfI (hO : OKX X G A cc nL own rm ret) {ci : Nat} {C : String} {T : u_T} {N : Nat} (hC : CP ci C T N) (hnm : CPn T N) {a : Nat} {fs fs2 : List SV} {v : SV} {ty : FieldType} (j : Nat) {ix : Nat} {ref : String} (hq : Cond.fieldLink own ix ref (T j).2.1 (T j).2.2.1 ∈ lw_all) (hsm : Cond.sameField ref (T j).1 (T j).2.1 (T j).2.2.1 ∈ lw_all) (ha : h a = some (eo ci fs)) (hA : A a) (hj : j < N) (hfin : (T j).2.2.2 = false) (hd : parseFieldDescriptor (T j).2.2.1 = some ty) (hn : narrow ty (zv v) = zv v) (hfit : fits ty (zv v) = true) (hl : j < fs.length) (hfs : fs.set j v = fs2) (d : decode cc pc = .ok (.putfield ix, 3)) (kk : VV X G A h0 nL Q (zup h a (eo ci fs2)) k n (pc + 3) lv (st)) : VV X G A h0 nL Q h k n (pc) lv (v :: sref a :: st) := by
  subst hfs
  intro H locs ls hR hS hf hL
  obtain ⟨hc, hin, ty0, hty⟩ := hC
  have hap := va_apart (own := own) hO.ts hin ty0 hty hnm hO.K hc
  obtain ⟨hN, r, h1, cell, q1, q2, q3, q4⟩ := hR.2.2 a _ ha
  have hr : r = (C, T, N) := Option.some.inj (h1.symm.trans hc)
  subst hr
  obtain ⟨hSl, hfc, kC, hkC, hkind⟩ := hO.K.1 ci _ hc
  obtain ⟨cf, kf, fi, f, hi, hsl⟩ := hSl j hj
  have hlay := hO.ts _ (hin _ (u_in_lay hj))
  unfold u_lay at hlay
  rw [if_neg (by rw [hfin]; decide)] at hlay
  have hst := (u_facts hfc hkC (u_lays hO.ts hin hj) hi).1
  have h6 := u_store hfc hkC hkind hlay hi hd hn hfit
  refine W.putK hO.x hO.b (f := f) ⟨hO.ow, hO.ts _ hq, ⟨_, _, _, u_same (hO.ts _ hsm) _ hi⟩, hst⟩ (by rw [q2]; exact h6) q1 q3 (by rw [hsl]; exact k2_hasslot (q4 j hj)) rfl rfl d fun H1 e1 e2 e3 => ?_
  rw [hsl] at e1 ⊢
  refine kk H1 _ ls (hR.set (Nat.le_of_eq e2.symm) hN ⟨_, hc, ?_⟩ (fun q _ hq => e3 q hq)) (hS.put e2 e3 hA) (frame_up hf hA) hL
  show t_OB a _ _ _ H1 (vp_V ((fs.set j v).map zv))
  rw [zv_set]
  exact t_OB.to (V := updV (vp_V (fs.map zv)) j (zv v)) ⟨_, e1, q2, q3, t_set q4 hap hj (zv v)⟩ (fun i _ => vp_updV_set (by rw [List.length_map]; exact hl) (zv v) i)
theorem v_putfN (hO : OKX X G A cc nL own rm ret) {ci : Nat} {C : String} {T : u_T} {N : Nat} (hC : CP ci C T N) (hnm : CPn T N) {a : Nat} {fs fs2 : List SV} {v : SV} {ty : FieldType} (j : Nat) {ix : Nat} {host : String} (hq : Cond.fieldLinkNest own ix (T j).1 (T j).2.1 (T j).2.2.1 host ∈ lw_tbl) (ha : h a = some (eo ci fs)) (hA : A a) (hj : j < N) (hfin : (T j).2.2.2 = false) (hd : parseFieldDescriptor (T j).2.2.1 = some ty) (hn : narrow ty (zv v) = zv v) (hfit : fits ty (zv v) = true) (hl : j < fs.length) (hfs : fs.set j v = fs2) (d : decode cc pc = .ok (.putfield ix, 3)) (kk : VV X G A h0 nL Q (zup h a (eo ci fs2)) k n (pc + 3) lv (st)) : VV X G A h0 nL Q h k n (pc) lv (v :: sref a :: st) := by
  subst hfs
  intro H locs ls hR hS hf hL
  obtain ⟨hc, hin, ty0, hty⟩ := hC
  have hap := va_apart (own := own) hO.ts hin ty0 hty hnm hO.K hc
  obtain ⟨hN, r, h1, cell, q1, q2, q3, q4⟩ := hR.2.2 a _ ha
  have hr : r = (C, T, N) := Option.some.inj (h1.symm.trans hc)
  subst hr
  obtain ⟨hSl, hfc, kC, hkC, hkind⟩ := hO.K.1 ci _ hc
  obtain ⟨cf, kf, fi, f, hi, hsl⟩ := hSl j hj
  have hlay := hO.ts _ (hin _ (u_in_lay hj))
  unfold u_lay at hlay
  rw [if_neg (by rw [hfin]; decide)] at hlay
  have hst := (u_facts hfc hkC (u_lays hO.ts hin hj) hi).1
  have h6 := u_store hfc hkC hkind hlay hi hd hn hfit
  refine va_WputK hO.x hO.b (f := f) hO.ow (va_Nw.use rfl (hO.kk.fieldN hq)) hi hst (by rw [q2]; exact h6) q1 q3 (by rw [hsl]; exact k2_hasslot (q4 j hj)) rfl rfl d fun H1 e1 e2 e3 => ?_
  rw [hsl] at e1 ⊢
  refine kk H1 _ ls (hR.set (Nat.le_of_eq e2.symm) hN ⟨_, hc, ?_⟩ (fun q _ hq => e3 q hq)) (hS.put e2 e3 hA) (frame_up hf hA) hL
  show t_OB a _ _ _ H1 (vp_V ((fs.set j v).map zv))
  rw [zv_set]
  exact t_OB.to (V := updV (vp_V (fs.map zv)) j (zv v)) ⟨_, e1, q2, q3, t_set q4 hap hj (zv v)⟩ (fun i _ => vp_updV_set (by rw [List.length_map]; exact hl) (zv v) i)
theorem v_putfF (hO : OKX X G A cc nL own rm ret) {ci : Nat} {C : String} {T : u_T} {N : Nat} (hC : CP ci C T N) (hnm : CPn T N) {a : Nat} {fs fs2 : List SV} {v : SV} {ty : FieldType} (j : Nat) {ix : Nat} (hq : Cond.fieldLink own ix (T j).1 (T j).2.1 (T j).2.2.1 ∈ lw_all) (hin2 : (xt X).name = "<init>") (hdecl : (T j).1 = own) (ha : h a = some (eo ci fs)) (hA : A a) (hj : j < N) (hfin : (T j).2.2.2 = true) (hd : parseFieldDescriptor (T j).2.2.1 = some ty) (hn : narrow ty (zv v) = zv v) (hfit : fits ty (zv v) = true) (hl : j < fs.length) (hfs : fs.set j v = fs2) (d : decode cc pc = .ok (.putfield ix, 3)) (kk : VV X G A h0 nL Q (zup h a (eo ci fs2)) k n (pc + 3) lv (st)) : VV X G A h0 nL Q h k n (pc) lv (v :: sref a :: st) := by
  subst hfs
  intro H locs ls hR hS hf hL
  obtain ⟨hc, hin, ty0, hty⟩ := hC
  have hap := va_apart (own := own) hO.ts hin ty0 hty hnm hO.K hc
  obtain ⟨hN, r, h1, cell, q1, q2, q3, q4⟩ := hR.2.2 a _ ha
  have hr : r = (C, T, N) := Option.some.inj (h1.symm.trans hc)
  subst hr
  obtain ⟨hSl, hfc, kC, hkC, hkind⟩ := hO.K.1 ci _ hc
  obtain ⟨cf, kf, fi, f, hi, hsl⟩ := hSl j hj
  have hlay := hO.ts _ (hin _ (u_in_lay hj))
  unfold u_lay at hlay
  rw [if_pos hfin] at hlay
  have hst := (u_facts hfc hkC (u_lays hO.ts hin hj) hi).1
  have hcf : (xm X).cls = cf := by
    obtain ⟨_, _, c2, _, _, _, -, -, hf2, -, -, -, hown2, -⟩ := Cond.laysFinal_spec hlay
    have e1 : c2 = cf := by have := hi.symm.trans hf2; simp at this; exact this.1.symm
    rw [hdecl] at hown2
    rw [← e1]; exact Option.some.inj (hO.ow.symm.trans hown2)
  have h6 := u_fits hfc hkC hkind (Or.inr hlay) hi hd hn hfit
  refine W.putFinK hO.x hO.b hO.ow (hO.ts _ hq) hi hst hcf hin2 (by rw [q2]; exact h6) q1 q3 (by rw [hsl]; exact k2_hasslot (q4 j hj)) rfl rfl d fun H1 e1 e2 e3 => ?_
  rw [hsl] at e1 ⊢
  refine kk H1 _ ls (hR.set (Nat.le_of_eq e2.symm) hN ⟨_, hc, ?_⟩ (fun q _ hq => e3 q hq)) (hS.put e2 e3 hA) (frame_up hf hA) hL
  show t_OB a _ _ _ H1 (vp_V ((fs.set j v).map zv))
  rw [zv_set]
  exact t_OB.to (V := updV (vp_V (fs.map zv)) j (zv v)) ⟨_, e1, q2, q3, t_set q4 hap hj (zv v)⟩ (fun i _ => vp_updV_set (by rw [List.length_map]; exact hl) (zv v) i)
theorem zn_of {z : Int} (h : 0 ≤ z) : ((z.toNat : Nat) : Int) = z := Int.toNat_of_nonneg h
theorem v_iald (hO : OKX X G A cc nL own rm ret) {a N : Nat} {g : Int → Int} {z : Int} (ha : h a = some (eI G N g)) (h1 : 0 ≤ z) (h2 : z < N) (hN : N < 2147483648) (d : decode cc pc = .ok (.iaload, 1)) (kk : VV X G A h0 nL Q h k n (pc + 1) lv (.inl (g z) :: st)) : VV X G A h0 nL Q h k n (pc) lv (.inl z :: sref a :: st) := by
  intro H locs ls hR hS hf hL
  have q := kk H locs ls hR hS hf hL
  refine va_iald hO.x hO.b hO.K (hR.P ha) 0 0 rfl rfl (zi_in h1 h2 hN) d ?_
  rw [zi_clamp h1 (by omega), zn_of h1]
  exact q
theorem v_zald (hO : OKX X G A cc nL own rm ret) {a N : Nat} {g : Int → Int} {z : Int} (ha : h a = some (eZ G N g)) (h1 : 0 ≤ z) (h2 : z < N) (hN : N < 2147483648) (d : decode cc pc = .ok (.baload, 1)) (kk : VV X G A h0 nL Q h k n (pc + 1) lv (.inl (g z) :: st)) : VV X G A h0 nL Q h k n (pc) lv (.inl z :: sref a :: st) := by
  intro H locs ls hR hS hf hL
  have q := kk H locs ls hR hS hf hL
  refine va_zald hO.x hO.b hO.K (hR.P ha) 0 1 rfl rfl (zi_in h1 h2 hN) d ?_
  rw [zi_clamp h1 (by omega), zn_of h1]
  exact q
theorem v_bald (hO : OKX X G A cc nL own rm ret) {a N : Nat} {g : Int → Int} {z : Int} (ha : h a = some (eB G N g)) (h1 : 0 ≤ z) (h2 : z < N) (hN : N < 2147483648) (d : decode cc pc = .ok (.baload, 1)) (kk : VV X G A h0 nL Q h k n (pc + 1) lv (.inl (g z) :: st)) : VV X G A h0 nL Q h k n (pc) lv (.inl z :: sref a :: st) := by
  intro H locs ls hR hS hf hL
  have q := kk H locs ls hR hS hf hL
  refine va_bald hO.x hO.b hO.K (hR.P ha) 0 2 rfl rfl (zi_in h1 h2 hN) d ?_
  rw [zi_clamp h1 (by omega), zn_of h1]
  exact q
theorem v_lald (hO : OKX X G A cc nL own rm ret) {a N : Nat} {g : Int → Int} {z : Int} (ha : h a = some (eJ G N g)) (h1 : 0 ≤ z) (h2 : z < N) (hN : N < 2147483648) (d : decode cc pc = .ok (.laload, 1)) (kk : VV X G A h0 nL Q h k n (pc + 1) lv (.inr (.long (zl (g z))) :: st)) : VV X G A h0 nL Q h k n (pc) lv (.inl z :: sref a :: st) := by
  intro H locs ls hR hS hf hL
  have q := kk H locs ls hR hS hf hL
  refine va_lald hO.x hO.b hO.K (hR.P ha) 0 3 rfl rfl (zi_in h1 h2 hN) d ?_
  rw [zi_clamp h1 (by omega), zn_of h1]
  exact q
theorem v_aald (hO : OKX X G A cc nL own rm ret) {a N : Nat} {g : Int → Option Nat} {z : Int} {r : Option Nat} (ha : h a = some (eL G N g)) (h1 : 0 ≤ z) (h2 : z < N) (hN : N < 2147483648) (hr : g z = r) (d : decode cc pc = .ok (.aaload, 1)) (kk : VV X G A h0 nL Q h k n (pc + 1) lv (zr r :: st)) : VV X G A h0 nL Q h k n (pc) lv (.inl z :: sref a :: st) := by
  subst hr
  intro H locs ls hR hS hf hL
  have q := kk H locs ls hR hS hf hL
  refine va_aldq hO.x hO.b hO.K (hR.P ha) 0 4 rfl rfl (zi_in h1 h2 hN) d ?_
  rw [zi_clamp h1 (by omega), zn_of h1]
  exact q
theorem v_sald (hO : OKX X G A cc nL own rm ret) {a N : Nat} {g : Int → Option Nat} {z : Int} {r : Option Nat} (ha : h a = some (eS G N g)) (h1 : 0 ≤ z) (h2 : z < N) (hN : N < 2147483648) (hr : g z = r) (d : decode cc pc = .ok (.aaload, 1)) (kk : VV X G A h0 nL Q h k n (pc + 1) lv (zr r :: st)) : VV X G A h0 nL Q h k n (pc) lv (.inl z :: sref a :: st) := by
  subst hr
  intro H locs ls hR hS hf hL
  have q := kk H locs ls hR hS hf hL
  refine va_aldq hO.x hO.b hO.K (hR.P ha) 0 5 rfl rfl (zi_in h1 h2 hN) d ?_
  rw [zi_clamp h1 (by omega), zn_of h1]
  exact q
theorem v_alenI (hO : OKX X G A cc nL own rm ret) {a N : Nat} {g : Int → Int} (ha : h a = some (eI G N g)) (d : decode cc pc = .ok (.arraylength, 1)) (kk : VV X G A h0 nL Q h k n (pc + 1) lv (.inl (N : Int) :: st)) : VV X G A h0 nL Q h k n (pc) lv (sref a :: st) := by
  intro H locs ls hR hS hf hL
  exact va_alen hO.x hO.b hO.K (hR.P ha) 0 0 rfl rfl (zi_nat N).symm d (kk H locs ls hR hS hf hL)
theorem v_alenZ (hO : OKX X G A cc nL own rm ret) {a N : Nat} {g : Int → Int} (ha : h a = some (eZ G N g)) (d : decode cc pc = .ok (.arraylength, 1)) (kk : VV X G A h0 nL Q h k n (pc + 1) lv (.inl (N : Int) :: st)) : VV X G A h0 nL Q h k n (pc) lv (sref a :: st) := by
  intro H locs ls hR hS hf hL
  exact va_alen hO.x hO.b hO.K (hR.P ha) 0 1 rfl rfl (zi_nat N).symm d (kk H locs ls hR hS hf hL)
theorem v_alenB (hO : OKX X G A cc nL own rm ret) {a N : Nat} {g : Int → Int} (ha : h a = some (eB G N g)) (d : decode cc pc = .ok (.arraylength, 1)) (kk : VV X G A h0 nL Q h k n (pc + 1) lv (.inl (N : Int) :: st)) : VV X G A h0 nL Q h k n (pc) lv (sref a :: st) := by
  intro H locs ls hR hS hf hL
  exact va_alen hO.x hO.b hO.K (hR.P ha) 0 2 rfl rfl (zi_nat N).symm d (kk H locs ls hR hS hf hL)
theorem v_alenJ (hO : OKX X G A cc nL own rm ret) {a N : Nat} {g : Int → Int} (ha : h a = some (eJ G N g)) (d : decode cc pc = .ok (.arraylength, 1)) (kk : VV X G A h0 nL Q h k n (pc + 1) lv (.inl (N : Int) :: st)) : VV X G A h0 nL Q h k n (pc) lv (sref a :: st) := by
  intro H locs ls hR hS hf hL
  exact va_alen hO.x hO.b hO.K (hR.P ha) 0 3 rfl rfl (zi_nat N).symm d (kk H locs ls hR hS hf hL)
theorem v_alenL (hO : OKX X G A cc nL own rm ret) {a N : Nat} {g : Int → Option Nat} (ha : h a = some (eL G N g)) (d : decode cc pc = .ok (.arraylength, 1)) (kk : VV X G A h0 nL Q h k n (pc + 1) lv (.inl (N : Int) :: st)) : VV X G A h0 nL Q h k n (pc) lv (sref a :: st) := by
  intro H locs ls hR hS hf hL
  exact va_alen hO.x hO.b hO.K (hR.P ha) 0 4 rfl rfl (zi_nat N).symm d (kk H locs ls hR hS hf hL)
theorem v_alenS (hO : OKX X G A cc nL own rm ret) {a N : Nat} {g : Int → Option Nat} (ha : h a = some (eS G N g)) (d : decode cc pc = .ok (.arraylength, 1)) (kk : VV X G A h0 nL Q h k n (pc + 1) lv (.inl (N : Int) :: st)) : VV X G A h0 nL Q h k n (pc) lv (sref a :: st) := by
  intro H locs ls hR hS hf hL
  exact va_alen hO.x hO.b hO.K (hR.P ha) 0 5 rfl rfl (zi_nat N).symm d (kk H locs ls hR hS hf hL)
theorem zst_fun {α : Type} (F : α → Value) (g : Int → α) (z : Int) (v : α) (h1 : 0 ≤ z) : updV (fun j => F (g j)) z.toNat (F v) = fun j : Nat => F (zupd g z v j) := by
  funext q
  unfold updV zupd
  by_cases hq : q = z.toNat
  · subst hq
    rw [if_pos rfl, if_pos (zn_of h1)]
  · rw [if_neg hq, if_neg (by omega)]
theorem v_iast (hO : OKX X G A cc nL own rm ret) {a N : Nat} {g : Int → Int} {z v : Int} (ha : h a = some (eI G N g)) (hA : A a) (h1 : 0 ≤ z) (h2 : z < N) (hN : N < 2147483648) (d : decode cc pc = .ok (.iastore, 1)) (kk : VV X G A h0 nL Q (zup h a (eI G N (zupd g z v))) k n (pc + 1) lv (st)) : VV X G A h0 nL Q h k n (pc) lv (.inl v :: .inl z :: sref a :: st) := by
  intro H locs ls hR hS hf hL
  obtain ⟨hNa, hat⟩ := hR.2.2 a _ ha
  refine W.iast hO.x hO.b hat ((hO.K.2 0 _ rfl).1 N _) (fun q => by cases q) (by show ¬ (zi z < 0 ∨ (arrV _ _ _).slots.size ≤ _); rw [arrV_size]; exact zi_in h1 h2 hN) rfl rfl d fun H1 e2 e3 oq => ?_
  refine kk H1 _ ls (hR.set (Nat.le_of_eq e3.symm) hNa ?_ (fun q _ hq => oq q hq)) (hS.put e3 oq hA) (frame_up hf hA) hL
  show H1[a]? = some (arrV (gC G 0) N (fun j => (fun z => Value.int (zi z)) (zupd g z v j)))
  rw [e2]
  show some ((arrV (gC G 0) N (fun j => (fun z => Value.int (zi z)) (g j))).setSlot (zi z).toNatClampNeg ((fun z => Value.int (zi z)) v)) = _
  rw [arrV_store, zi_clamp h1 (by omega)]
  exact congrArg (fun F => some (arrV _ N F)) (zst_fun (fun z => Value.int (zi z)) g z v h1)
theorem v_last (hO : OKX X G A cc nL own rm ret) {a N : Nat} {g : Int → Int} {z v : Int} (ha : h a = some (eJ G N g)) (hA : A a) (h1 : 0 ≤ z) (h2 : z < N) (hN : N < 2147483648) (d : decode cc pc = .ok (.lastore, 1)) (kk : VV X G A h0 nL Q (zup h a (eJ G N (zupd g z v))) k n (pc + 1) lv (st)) : VV X G A h0 nL Q h k n (pc) lv (.inr (.long (zl v)) :: .inl z :: sref a :: st) := by
  intro H locs ls hR hS hf hL
  obtain ⟨hNa, hat⟩ := hR.2.2 a _ ha
  refine W.last hO.x hO.b hat ((hO.K.2 3 _ rfl).1 N _) (fun q => by cases q) (by show ¬ (zi z < 0 ∨ (arrV _ _ _).slots.size ≤ _); rw [arrV_size]; exact zi_in h1 h2 hN) rfl rfl d fun H1 e2 e3 oq => ?_
  refine kk H1 _ ls (hR.set (Nat.le_of_eq e3.symm) hNa ?_ (fun q _ hq => oq q hq)) (hS.put e3 oq hA) (frame_up hf hA) hL
  show H1[a]? = some (arrV (gC G 3) N (fun j => (fun z => Value.long (zl z)) (zupd g z v j)))
  rw [e2]
  show some ((arrV (gC G 3) N (fun j => (fun z => Value.long (zl z)) (g j))).setSlot (zi z).toNatClampNeg ((fun z => Value.long (zl z)) v)) = _
  rw [arrV_store, zi_clamp h1 (by omega)]
  exact congrArg (fun F => some (arrV _ N F)) (zst_fun (fun z => Value.long (zl z)) g z v h1)
theorem v_zast (hO : OKX X G A cc nL own rm ret) {a N : Nat} {g : Int → Int} {z v w : Int} (ha : h a = some (eZ G N g)) (hA : A a) (h1 : 0 ≤ z) (h2 : z < N) (hN : N < 2147483648) (hv : narrow .boolean (.int (zi v)) = .int (zi w)) (d : decode cc pc = .ok (.bastore, 1)) (kk : VV X G A h0 nL Q (zup h a (eZ G N (zupd g z w))) k n (pc + 1) lv (st)) : VV X G A h0 nL Q h k n (pc) lv (.inl v :: .inl z :: sref a :: st) := by
  intro H locs ls hR hS hf hL
  obtain ⟨hNa, hat⟩ := hR.2.2 a _ ha
  refine W.zast hO.x hO.b hat ((hO.K.2 1 _ rfl).1 N _) (fun q => by cases q) (by show ¬ (zi z < 0 ∨ (arrV _ _ _).slots.size ≤ _); rw [arrV_size]; exact zi_in h1 h2 hN) rfl rfl d fun H1 e2 e3 oq => ?_
  refine kk H1 _ ls (hR.set (Nat.le_of_eq e3.symm) hNa ?_ (fun q _ hq => oq q hq)) (hS.put e3 oq hA) (frame_up hf hA) hL
  show H1[a]? = some (arrV (gC G 1) N (fun j => Value.int (zi (zupd g z w j))))
  rw [e2]
  show some ((arrV (gC G 1) N (fun j => Value.int (zi (g j)))).setSlot (zi z).toNatClampNeg (narrow .boolean (.int (zi v)))) = _
  rw [arrV_store, zi_clamp h1 (by omega), hv]
  exact congrArg (fun F => some (arrV _ N F)) (zst_fun (fun z => Value.int (zi z)) g z w h1)
theorem v_bast (hO : OKX X G A cc nL own rm ret) {a N : Nat} {g : Int → Int} {z v w : Int} (ha : h a = some (eB G N g)) (hA : A a) (h1 : 0 ≤ z) (h2 : z < N) (hN : N < 2147483648) (hv : narrow .byte (.int (zi v)) = .int (zi w)) (d : decode cc pc = .ok (.bastore, 1)) (kk : VV X G A h0 nL Q (zup h a (eB G N (zupd g z w))) k n (pc + 1) lv (st)) : VV X G A h0 nL Q h k n (pc) lv (.inl v :: .inl z :: sref a :: st) := by
  intro H locs ls hR hS hf hL
  obtain ⟨hNa, hat⟩ := hR.2.2 a _ ha
  refine W.bast hO.x hO.b hat ((hO.K.2 2 _ rfl).1 N _) (fun q => by cases q) (by show ¬ (zi z < 0 ∨ (arrV _ _ _).slots.size ≤ _); rw [arrV_size]; exact zi_in h1 h2 hN) rfl rfl d fun H1 e2 e3 oq => ?_
  refine kk H1 _ ls (hR.set (Nat.le_of_eq e3.symm) hNa ?_ (fun q _ hq => oq q hq)) (hS.put e3 oq hA) (frame_up hf hA) hL
  show H1[a]? = some (arrV (gC G 2) N (fun j => Value.int (zi (zupd g z w j))))
  rw [e2]
  show some ((arrV (gC G 2) N (fun j => Value.int (zi (g j)))).setSlot (zi z).toNatClampNeg (narrow .byte (.int (zi v)))) = _
  rw [arrV_store, zi_clamp h1 (by omega), hv]
  exact congrArg (fun F => some (arrV _ N F)) (zst_fun (fun z => Value.int (zi z)) g z w h1)
/-- what may be stored into an array of Objects: an object, or an array, that the map holds -/
def zAny (G : GT) (h : AH) (E : String) (v : Nat) : Prop := ∀ (U : State) (H : Heap), KK G U → Rep G H h → va_Any E U H v
theorem zAny_o {G : GT} {h : AH} {ci : Nat} {C : String} {T : u_T} {N : Nat} (hC : CP ci C T N) {E : String} (hw : Cond.castable C E ∈ lw_tbl) {v : Nat} {fs : List SV} (ha : h v = some (eo ci fs)) : zAny G h E v := fun U H hK hR => by
  refine va_rAny hK.K (hR.P ha) (q0 := 0) rfl hC.1 (fun comp c0 f1 f2 => ?_)
  obtain ⟨c1, t1, g1, g2, g3⟩ := Cond.castable_spec (va_Nw.use (A := #[]) rfl (hK.castable hw))
  cases f1.symm.trans g2
  cases f2.symm.trans g1
  exact g3
theorem v_aast (hO : OKX X G A cc nL own rm ret) {a N v : Nat} {g : Int → Option Nat} {z : Int} (ha : h a = some (eL G N g)) (hA : A a) (h1 : 0 ≤ z) (h2 : z < N) (hN : N < 2147483648) (hv : zAny G h "java/lang/Object" v) (d : decode cc pc = .ok (.aastore, 1)) (kk : VV X G A h0 nL Q (zup h a (eL G N (zupd g z (some v)))) k n (pc + 1) lv (st)) : VV X G A h0 nL Q h k n (pc) lv (sref v :: .inl z :: sref a :: st) := by
  intro H locs ls hR hS hf hL
  obtain ⟨hNa, hat⟩ := hR.2.2 a _ ha
  obtain ⟨cellV, g1, g2, ⟨kC, hkC⟩, g3⟩ := hv _ H hO.kk hR
  obtain ⟨kA, comp, k1, k2, k3, -⟩ := (hO.K.2 4 _ rfl).2
  have h0 : ¬ zi z < 0 := fun q => (zi_in h1 h2 hN) (Or.inl q)
  have hlt : (zi z).toNatClampNeg < N := Nat.not_le.mp fun q => (zi_in h1 h2 hN) (Or.inr q)
  obtain ⟨kO, hkO, -⟩ := Vm.findClass_spec k3
  refine W.aast hO.x hO.b hat (fun q h => by cases h) (fun h => by cases h) k1 k2 rfl hkO ⟨h0, by show _ < (arrV _ _ _).slots.size; rw [arrV_size]; exact hlt⟩ g1 (fun q h => by rw [h] at g2; cases g2) hkC (g3 comp k3) rfl rfl d fun H1 e2 e3 oq => ?_
  refine kk H1 _ ls (hR.set (Nat.le_of_eq e3.symm) hNa ?_ (fun q _ hq => oq q hq)) (hS.put e3 oq hA) (frame_up hf hA) hL
  show H1[a]? = some (arrV (gC G 4) N (fun j => va_rf (zupd g z (some v) j)))
  rw [e2]
  show some ((arrV (gC G 4) N (fun j => va_rf (g j))).setSlot (zi z).toNatClampNeg (va_rf (some v))) = _
  rw [arrV_store, zi_clamp h1 (by omega)]
  exact congrArg (fun F => some (arrV _ N F)) (zst_fun va_rf g z (some v) h1)
theorem v_aastN (hO : OKX X G A cc nL own rm ret) {a N : Nat} {g : Int → Option Nat} {z : Int} (ha : h a = some (eL G N g)) (hA : A a) (h1 : 0 ≤ z) (h2 : z < N) (hN : N < 2147483648) (d : decode cc pc = .ok (.aastore, 1)) (kk : VV X G A h0 nL Q (zup h a (eL G N (zupd g z none))) k n (pc + 1) lv (st)) : VV X G A h0 nL Q h k n (pc) lv (snull :: .inl z :: sref a :: st) := by
  intro H locs ls hR hS hf hL
  obtain ⟨hNa, hat⟩ := hR.2.2 a _ ha
  refine va_WaastN (C := "java/lang/Object") hO.x hO.b hat ((hO.K.2 4 _ rfl).1 N _) (fun h => by cases h) (by show ¬ (zi z < 0 ∨ (arrV _ _ _).slots.size ≤ _); rw [arrV_size]; exact zi_in h1 h2 hN) rfl rfl d fun H1 e2 e3 oq => ?_
  refine kk H1 _ ls (hR.set (Nat.le_of_eq e3.symm) hNa ?_ (fun q _ hq => oq q hq)) (hS.put e3 oq hA) (frame_up hf hA) hL
  show H1[a]? = some (arrV (gC G 4) N (fun j => va_rf (zupd g z none j)))
  rw [e2]
  show some ((arrV (gC G 4) N (fun j => va_rf (g j))).setSlot (zi z).toNatClampNeg (va_rf none)) = _
  rw [arrV_store, zi_clamp h1 (by omega)]
  exact congrArg (fun F => some (arrV _ N F)) (zst_fun va_rf g z none h1)
theorem frame_new {A : Nat → Prop} {h h0 : AH} {a : Nat} {e : va_E} (hf : ∀ a, ¬ A a → h a = h0 a) (hA : A a) : ∀ b, ¬ A b → zup h a e b = h0 b := frame_up hf hA
theorem zS_new {A : Nat → Prop} {H0 H H1 : Heap} {locs : List Loc} (hS : va_S A H0 H locs) (z1 : H1.size = H.size + 1) (o1 : ∀ q : Nat, q < H.size → H1[q]? = H[q]?) : va_S A H0 H1 locs := ⟨Nat.le_trans hS.1 (by omega), fun q h1 h2 => (o1 q (Nat.lt_of_lt_of_le h1 hS.1)).trans (hS.2.1 q h1 h2), hS.2.2⟩
theorem v_new (hO : OKX X G A cc nL own rm ret) {ci : Nat} {C : String} {T : u_T} {N : Nat} (hC : CP ci C T N) {ix : Nat} {fs : List SV} (hq : Cond.classLink own ix C ∈ lw_all) (hi : Cond.instantiable C N ∈ lw_all) (hini : Cond.initialized C ∈ lw_all) (tyf : Nat → FieldType) (hty : ∀ j, j < N → parseFieldDescriptor (T j).2.2.1 = some (tyf j)) (hfs : ∀ j, j < N → defaultValue (tyf j) = vp_V (fs.map zv) j) {k2 n2 : Nat} (hk : k + 1 ≤ k2) (hk2 : k2 ≤ rm.cells) (hn : n + N ≤ n2) (hn2 : n2 ≤ rm.slots) (d : decode cc pc = .ok (.new ix, 3)) (kk : ∀ q, A q → h q = none → gN G ≤ q → VV X G A h0 nL Q (zup h q (eo ci fs)) k2 n2 (pc + 3) lv (sref q :: st)) : VV X G A h0 nL Q h k n (pc) lv (st) := by
  intro H locs ls hR hS hf hL
  have hKn := hO.K.1 ci _ hC.1
  refine W.newcK hO.x hO.b hO.ow (hO.ts _ hq) (hO.ts _ hi) (hO.ts _ hini) rfl d (by rw [hO.R]; omega) (by rw [hO.R]; omega) hKn.2.1 rfl fun H1 kC hkC e1 z1 o1 => ?_
  have hAq : A H.size := hO.A1 _ hS.1
  have hno : h H.size = none := by
    cases hx : h H.size with
    | none => rfl
    | some e => exact absurd (hR.lt hx) (Nat.lt_irrefl _)
  refine W.widen hk hn (kk H.size hAq hno hR.1 H1 _ ls (hR.set (by omega) hR.1 ⟨_, hC.1, (u_born tyf hO.ts hC.2.1 hKn hkC e1 hty).to hfs⟩ (fun q hq _ => o1 q hq)) (zS_new hS z1 o1) (frame_new hf hAq) hL)
theorem v_newI (hO : OKX X G A cc nL own rm ret) {z : Int} {N : Nat} (hq : Cond.arrayClass .int ∈ lw_all) (hz : z = N) (hN : N < 60000000) {k2 n2 : Nat} (hk : k + 1 ≤ k2) (hk2 : k2 ≤ rm.cells) (hn : n + N ≤ n2) (hn2 : n2 ≤ rm.slots) (d : decode cc pc = .ok (.newarray .int, 2)) (kk : ∀ q, A q → h q = none → gN G ≤ q → VV X G A h0 nL Q (zup h q (eI G N (fun _ => 0))) k2 n2 (pc + 2) lv (sref q :: st)) : VV X G A h0 nL Q h k n (pc) lv (.inl z :: st) := by
  intro H locs ls hR hS hf hL
  subst hz
  have hz1 : ¬ zi (N : Int) < 0 := fun q => (zi_in (n := N + 1) (Int.natCast_nonneg N) (by omega) (by omega)) (Or.inl q)
  have hz2 : (zi (N : Int)).toNatClampNeg = N := by rw [zi_clamp (Int.natCast_nonneg N) (by omega)]; rfl
  refine va_newaK (atype := .int) hO.x hO.b (hO.ts _ hq) rfl d rfl hz1 hz2 (by show N * 4 ≤ _; omega) (by rw [hO.R]; omega) (by rw [hO.R]; omega) (h := H.size) rfl fun H1 cA e1 z1 o1 hAr hNm => ?_
  have hcA : cA = gC G 0 := Option.some.inj (hNm.symm.trans (hO.K.2 0 _ rfl).2)
  subst hcA
  have hAq : A H.size := hO.A1 _ hS.1
  have hno : h H.size = none := by
    cases hx : h H.size with
    | none => rfl
    | some e => exact absurd (hR.lt hx) (Nat.lt_irrefl _)
  refine W.widen hk hn (kk H.size hAq hno hR.1 H1 _ ls (hR.set (by omega) hR.1 e1 (fun q hq _ => o1 q hq)) (zS_new hS z1 o1) (frame_new hf hAq) hL)
theorem v_newZ (hO : OKX X G A cc nL own rm ret) {z : Int} {N : Nat} (hq : Cond.arrayClass .boolean ∈ lw_all) (hz : z = N) (hN : N < 60000000) {k2 n2 : Nat} (hk : k + 1 ≤ k2) (hk2 : k2 ≤ rm.cells) (hn : n + N ≤ n2) (hn2 : n2 ≤ rm.slots) (d : decode cc pc = .ok (.newarray .boolean, 2)) (kk : ∀ q, A q → h q = none → gN G ≤ q → VV X G A h0 nL Q (zup h q (eZ G N (fun _ => 0))) k2 n2 (pc + 2) lv (sref q :: st)) : VV X G A h0 nL Q h k n (pc) lv (.inl z :: st) := by
  intro H locs ls hR hS hf hL
  subst hz
  have hz1 : ¬ zi (N : Int) < 0 := fun q => (zi_in (n := N + 1) (Int.natCast_nonneg N) (by omega) (by omega)) (Or.inl q)
  have hz2 : (zi (N : Int)).toNatClampNeg = N := by rw [zi_clamp (Int.natCast_nonneg N) (by omega)]; rfl
  refine va_newaK (atype := .boolean) hO.x hO.b (hO.ts _ hq) rfl d rfl hz1 hz2 (by show N * 1 ≤ _; omega) (by rw [hO.R]; omega) (by rw [hO.R]; omega) (h := H.size) rfl fun H1 cA e1 z1 o1 hAr hNm => ?_
  have hcA : cA = gC G 1 := Option.some.inj (hNm.symm.trans (hO.K.2 1 _ rfl).2)
  subst hcA
  have hAq : A H.size := hO.A1 _ hS.1
  have hno : h H.size = none := by
    cases hx : h H.size with
    | none => rfl
    | some e => exact absurd (hR.lt hx) (Nat.lt_irrefl _)
  refine W.widen hk hn (kk H.size hAq hno hR.1 H1 _ ls (hR.set (by omega) hR.1 e1 (fun q hq _ => o1 q hq)) (zS_new hS z1 o1) (frame_new hf hAq) hL)
theorem v_newB (hO : OKX X G A cc nL own rm ret) {z : Int} {N : Nat} (hq : Cond.arrayClass .byte ∈ lw_all) (hz : z = N) (hN : N < 60000000) {k2 n2 : Nat} (hk : k + 1 ≤ k2) (hk2 : k2 ≤ rm.cells) (hn : n + N ≤ n2) (hn2 : n2 ≤ rm.slots) (d : decode cc pc = .ok (.newarray .byte, 2)) (kk : ∀ q, A q → h q = none → gN G ≤ q → VV X G A h0 nL Q (zup h q (eB G N (fun _ => 0))) k2 n2 (pc + 2) lv (sref q :: st)) : VV X G A h0 nL Q h k n (pc) lv (.inl z :: st) := by
  intro H locs ls hR hS hf hL
  subst hz
  have hz1 : ¬ zi (N : Int) < 0 := fun q => (zi_in (n := N + 1) (Int.natCast_nonneg N) (by omega) (by omega)) (Or.inl q)
  have hz2 : (zi (N : Int)).toNatClampNeg = N := by rw [zi_clamp (Int.natCast_nonneg N) (by omega)]; rfl
  refine va_newaK (atype := .byte) hO.x hO.b (hO.ts _ hq) rfl d rfl hz1 hz2 (by show N * 1 ≤ _; omega) (by rw [hO.R]; omega) (by rw [hO.R]; omega) (h := H.size) rfl fun H1 cA e1 z1 o1 hAr hNm => ?_
  have hcA : cA = gC G 2 := Option.some.inj (hNm.symm.trans (hO.K.2 2 _ rfl).2)
  subst hcA
  have hAq : A H.size := hO.A1 _ hS.1
  have hno : h H.size = none := by
    cases hx : h H.size with
    | none => rfl
    | some e => exact absurd (hR.lt hx) (Nat.lt_irrefl _)
  refine W.widen hk hn (kk H.size hAq hno hR.1 H1 _ ls (hR.set (by omega) hR.1 e1 (fun q hq _ => o1 q hq)) (zS_new hS z1 o1) (frame_new hf hAq) hL)
theorem v_newJ (hO : OKX X G A cc nL own rm ret) {z : Int} {N : Nat} (hq : Cond.arrayClass .long ∈ lw_all) (hz : z = N) (hN : N < 60000000) {k2 n2 : Nat} (hk : k + 1 ≤ k2) (hk2 : k2 ≤ rm.cells) (hn : n + N ≤ n2) (hn2 : n2 ≤ rm.slots) (d : decode cc pc = .ok (.newarray .long, 2)) (kk : ∀ q, A q → h q = none → gN G ≤ q → VV X G A h0 nL Q (zup h q (eJ G N (fun _ => 0))) k2 n2 (pc + 2) lv (sref q :: st)) : VV X G A h0 nL Q h k n (pc) lv (.inl z :: st) := by
  intro H locs ls hR hS hf hL
  subst hz
  have hz1 : ¬ zi (N : Int) < 0 := fun q => (zi_in (n := N + 1) (Int.natCast_nonneg N) (by omega) (by omega)) (Or.inl q)
  have hz2 : (zi (N : Int)).toNatClampNeg = N := by rw [zi_clamp (Int.natCast_nonneg N) (by omega)]; rfl
  refine va_newaK (atype := .long) hO.x hO.b (hO.ts _ hq) rfl d rfl hz1 hz2 (by show N * 8 ≤ _; omega) (by rw [hO.R]; omega) (by rw [hO.R]; omega) (h := H.size) rfl fun H1 cA e1 z1 o1 hAr hNm => ?_
  have hcA : cA = gC G 3 := Option.some.inj (hNm.symm.trans (hO.K.2 3 _ rfl).2)
  subst hcA
  have hAq : A H.size := hO.A1 _ hS.1
  have hno : h H.size = none := by
    cases hx : h H.size with
    | none => rfl
    | some e => exact absurd (hR.lt hx) (Nat.lt_irrefl _)
  refine W.widen hk hn (kk H.size hAq hno hR.1 H1 _ ls (hR.set (by omega) hR.1 e1 (fun q hq _ => o1 q hq)) (zS_new hS z1 o1) (frame_new hf hAq) hL)
theorem v_newL (hO : OKX X G A cc nL own rm ret) {z : Int} {N ix : Nat} (hq : Cond.classLink own ix "java/lang/Object" ∈ lw_all) (hw : (Cond.arrayOver (.object "java/lang/Object")) ∈ lw_tbl) (hz : z = N) (hN : N < 60000000) {k2 n2 : Nat} (hk : k + 1 ≤ k2) (hk2 : k2 ≤ rm.cells) (hn : n + N ≤ n2) (hn2 : n2 ≤ rm.slots) (d : decode cc pc = .ok (.anewarray ix, 3)) (kk : ∀ q, A q → h q = none → gN G ≤ q → VV X G A h0 nL Q (zup h q (eL G N (fun _ => none))) k2 n2 (pc + 3) lv (sref q :: st)) : VV X G A h0 nL Q h k n (pc) lv (.inl z :: st) := by
  intro H locs ls hR hS hf hL
  subst hz
  have hz1 : ¬ zi (N : Int) < 0 := fun q => (zi_in (n := N + 1) (Int.natCast_nonneg N) (by omega) (by omega)) (Or.inl q)
  have hz2 : (zi (N : Int)).toNatClampNeg = N := by rw [zi_clamp (Int.natCast_nonneg N) (by omega)]; rfl
  refine W.anew hO.x hO.b hO.ow (hO.ts _ hq) (va_AO.use (hO.kk.over hw)) rfl d rfl hz1 (by rw [hz2]; omega) (by rw [hO.R]; omega) (by rw [hO.R, hz2]; omega) fun cA kA comp f1 f2 f3 f4 => ?_
  rw [hz2]
  generalize hH1 : H.push ({ cls := cA, slots := Array.replicate N .null, vm := .none } : Cell) = H1
  have z1 : H1.size = H.size + 1 := by rw [← hH1, Array.size_push]
  have e1 : H1[H.size]? = some (arrV cA N (fun _ => .null)) := by rw [← hH1, Array.getElem?_push_size, ← arrV_new]
  have o1 : ∀ q : Nat, q < H.size → H1[q]? = H[q]? := fun q hq => by rw [← hH1, Array.getElem?_push, if_neg (Nat.ne_of_lt hq)]
  obtain ⟨kA2, comp2, b1, b2, b3, b4⟩ := (hO.K.2 4 _ rfl).2
  have hcA : cA = gC G 4 := Option.some.inj (f1.symm.trans b4)
  subst hcA
  have hAq : A H.size := hO.A1 _ hS.1
  have hno : h H.size = none := by
    cases hx : h H.size with
    | none => rfl
    | some e => exact absurd (hR.lt hx) (Nat.lt_irrefl _)
  refine W.widen hk hn (kk H.size hAq hno hR.1 H1 _ ls (hR.set (by omega) hR.1 e1 (fun q hq _ => o1 q hq)) (zS_new hS z1 o1) (frame_new hf hAq) hL)
theorem v_newS (hO : OKX X G A cc nL own rm ret) {z : Int} {N ix : Nat} (hq : Cond.classLink own ix "java/lang/String" ∈ lw_all) (hw : (Cond.arrayOver (.object "java/lang/String")) ∈ lw_tbl) (hz : z = N) (hN : N < 60000000) {k2 n2 : Nat} (hk : k + 1 ≤ k2) (hk2 : k2 ≤ rm.cells) (hn : n + N ≤ n2) (hn2 : n2 ≤ rm.slots) (d : decode cc pc = .ok (.anewarray ix, 3)) (kk : ∀ q, A q → h q = none → gN G ≤ q → VV X G A h0 nL Q (zup h q (eS G N (fun _ => none))) k2 n2 (pc + 3) lv (sref q :: st)) : VV X G A h0 nL Q h k n (pc) lv (.inl z :: st) := by
  intro H locs ls hR hS hf hL
  subst hz
  have hz1 : ¬ zi (N : Int) < 0 := fun q => (zi_in (n := N + 1) (Int.natCast_nonneg N) (by omega) (by omega)) (Or.inl q)
  have hz2 : (zi (N : Int)).toNatClampNeg = N := by rw [zi_clamp (Int.natCast_nonneg N) (by omega)]; rfl
  refine W.anew hO.x hO.b hO.ow (hO.ts _ hq) (va_AO.use (hO.kk.over hw)) rfl d rfl hz1 (by rw [hz2]; omega) (by rw [hO.R]; omega) (by rw [hO.R, hz2]; omega) fun cA kA comp f1 f2 f3 f4 => ?_
  rw [hz2]
  generalize hH1 : H.push ({ cls := cA, slots := Array.replicate N .null, vm := .none } : Cell) = H1
  have z1 : H1.size = H.size + 1 := by rw [← hH1, Array.size_push]
  have e1 : H1[H.size]? = some (arrV cA N (fun _ => .null)) := by rw [← hH1, Array.getElem?_push_size, ← arrV_new]
  have o1 : ∀ q : Nat, q < H.size → H1[q]? = H[q]? := fun q hq => by rw [← hH1, Array.getElem?_push, if_neg (Nat.ne_of_lt hq)]
  obtain ⟨kA2, comp2, b1, b2, b3, b4⟩ := (hO.K.2 5 _ rfl).2
  have hcA : cA = gC G 5 := Option.some.inj (f1.symm.trans b4)
  subst hcA
  have hAq : A H.size := hO.A1 _ hS.1
  have hno : h H.size = none := by
    cases hx : h H.size with
    | none => rfl
    | some e => exact absurd (hR.lt hx) (Nat.lt_irrefl _)
  refine W.widen hk hn (kk H.size hAq hno hR.1 H1 _ ls (hR.set (by omega) hR.1 e1 (fun q hq _ => o1 q hq)) (zS_new hS z1 o1) (frame_new hf hAq) hL)
theorem v_cast (hO : OKX X G A cc nL own rm ret) {ci : Nat} {C : String} {T : u_T} {N : Nat} (hC : CP ci C T N) {a ix : Nat} {fs : List SV} {nm : String} (ha : h a = some (eo ci fs)) (hq : Cond.classLink own ix nm ∈ lw_all) (hw : nm = C ∨ Cond.castable C nm ∈ lw_tbl) (d : decode cc pc = .ok (.checkcast ix, 3)) (kk : VV X G A h0 nL Q h k n (pc + 3) lv (sref a :: st)) : VV X G A h0 nL Q h k n (pc) lv (sref a :: st) := by
  intro H locs ls hR hS hf hL
  rcases hw with rfl | hw
  · exact va_castS hO.x hO.b hO.ow (hO.ts _ hq) (hO.K.1 ci _ hC.1).2 (hR.recv hO.kk hC ha) d (kk H locs ls hR hS hf hL)
  · exact va_castY hO.x hO.b hO.ow (hO.ts _ hq) (hO.kk.castable hw) (hR.recv hO.kk hC ha) d (kk H locs ls hR hS hf hL)
theorem v_castN (hO : OKX X G A cc nL own rm ret) {ix : Nat} (d : decode cc pc = .ok (.checkcast ix, 3)) (kk : VV X G A h0 nL Q h k n (pc + 3) lv (snull :: st)) : VV X G A h0 nL Q h k n (pc) lv (snull :: st) := by
  intro H locs ls hR hS hf hL
  exact lv_castN hO.x hO.b d (kk H locs ls hR hS hf hL)
theorem v_obj (hO : OKX X G A cc nL own rm ret) {a ix : Nat} (hq : Cond.methodLink own ix Lib.objectInit ∈ lw_all) (hi : Cond.instanceMethod Lib.objectInit ∈ lw_all) (hc : Cond.code Lib.objectInit ⟨#[0xb1]⟩ 1 none ∈ lw_all) (hf1 : 1 ≤ rm.frames) (hcat : (st.map (fun v => (zv v).category)).sum + 12 ≤ rm.locals) (d : decode cc pc = .ok (.invokespecial ix, 3)) (kk : VV X G A h0 nL Q h k n (pc + 3) lv (st)) : VV X G A h0 nL Q h k n (pc) lv (sref a :: st) := by
  intro H locs ls hR hS hf hL
  refine W.objInit hO.x hO.b hO.ow (hO.ts _ hq) (hO.ts _ hi) (hO.ts _ hc) rfl (by rw [hO.ml]; exact hL.1) rfl d (by rw [hO.R]; exact hf1) ?_ (kk H locs ls hR hS hf hL)
  rw [hO.R]
  show 2 * 0 + _ + 12 ≤ _
  rw [List.map_map]
  have e : (st.map ((fun v => v.category) ∘ zv)).sum = (st.map (fun v => (zv v).category)).sum := rfl
  omega
end VHeap
set_option maxRecDepth 100000
theorem cp_X1 : CP 0 RX1 TX1 8 := ⟨rfl, in_X1, tyX1, tyX1_ok⟩
theorem cn_X1 : CPn TX1 8 := nmX1
theorem cp_X2 : CP 1 RX2 TX2 2 := ⟨rfl, in_X2, tyX2, tyX2_ok⟩
theorem cn_X2 : CPn TX2 2 := nmX2
theorem cp_X3 : CP 2 RX3 TX3 14 := ⟨rfl, in_X3, tyX3, tyX3_ok⟩
theorem cn_X3 : CPn TX3 14 := nmX3
theorem cp_X4 : CP 3 RX4 TX4 28 := ⟨rfl, in_X4, tyX4, tyX4_ok⟩
theorem cn_X4 : CPn TX4 28 := nmX4
theorem cp_X6a : CP 4 RX6 TX6a 9 := ⟨rfl, in_X6a, (fun k => tyX6 (if k < 7 then k else k + 1)), tyX6a_ok⟩
theorem cn_X6a : CPn TX6a 9 := nmX6a
theorem cp_X6 : CP 5 RX6 TX6 10 := ⟨rfl, in_X6, tyX6, tyX6_ok⟩
theorem cp_X7 : CP 6 RX7 TX7 8 := ⟨rfl, in_X7, tyX7, tyX7_ok⟩
theorem cn_X7 : CPn TX7 8 := nmX7
theorem cp_X8 : CP 7 RX8 TX8 4 := ⟨rfl, in_X8, tyX8, tyX8_ok⟩
theorem cn_X8 : CPn TX8 4 := nmX8
theorem cp_X9 : CP 8 RX9 TX9 7 := ⟨rfl, in_X9, tyX9, tyX9_ok⟩
theorem cn_X9 : CPn TX9 7 := nmX9
theorem cp_X10 : CP 9 RX10 TX10 4 := ⟨rfl, in_X10, tyX10, tyX10_ok⟩
theorem cn_X10 : CPn TX10 4 := nmX10
theorem cp_X11 : CP 10 RX11 TX11 2 := ⟨rfl, in_X11, tyX11, tyX11_ok⟩
theorem cn_X11 : CPn TX11 2 := nmX11
theorem cp_X13 : CP 11 RX13 TX13 6 := ⟨rfl, in_X13, tyX13, tyX13_ok⟩
theorem cn_X13 : CPn TX13 6 := nmX13
theorem cp_X14 : CP 12 RX14 TX14 11 := ⟨rfl, in_X14, tyX14, tyX14_ok⟩
theorem cn_X14 : CPn TX14 11 := nmX14
theorem cp_X15 : CP 13 RX15 TX15 3 := ⟨rfl, in_X15, tyX15, tyX15_ok⟩
theorem cn_X15 : CPn TX15 3 := nmX15
theorem cp_X16 : CP 14 RX16 TX16 6 := ⟨rfl, in_X16, tyX16, tyX16_ok⟩
theorem cn_X16 : CPn TX16 6 := nmX16
theorem cp_X17 : CP 15 RX17 TX17 3 := ⟨rfl, in_X17, tyX17, tyX17_ok⟩
theorem cn_X17 : CPn TX17 3 := nmX17
theorem cp_X18a : CP 16 RX18 TX18a 10 := ⟨rfl, in_X18a, (fun k => tyX18 (if k < 7 then k else k + 1)), tyX18a_ok⟩
theorem cn_X18a : CPn TX18a 10 := nmX18a
theorem cp_X18 : CP 17 RX18 TX18 11 := ⟨rfl, in_X18, tyX18, tyX18_ok⟩
theorem cp_X20 : CP 18 RX20 TX20 1 := ⟨rfl, in_X20, tyX20, tyX20_ok⟩
theorem cn_X20 : CPn TX20 1 := nmX20
theorem cp_X21 : CP 19 RX21 TX21 3 := ⟨rfl, in_X21, tyX21, tyX21_ok⟩
theorem cn_X21 : CPn TX21 3 := nmX21
theorem cp_X22 : CP 20 RX22 TX22 2 := ⟨rfl, in_X22, tyX22, tyX22_ok⟩
theorem cn_X22 : CPn TX22 2 := nmX22
theorem cp_J2 : CP 21 RJ2 TJ2 3 := ⟨rfl, in_J2, tyJ2, tyJ2_ok⟩
theorem cn_J2 : CPn TJ2 3 := nmJ2
theorem cp_J3 : CP 22 RJ3 TJ3 3 := ⟨rfl, in_J3, tyJ3, tyJ3_ok⟩
theorem cn_J3 : CPn TJ3 3 := nmJ3
theorem cp_J10 : CP 23 RJ10 TJ10 4 := ⟨rfl, in_J10, tyJ10, tyJ10_ok⟩
theorem cn_J10 : CPn TJ10 4 := nmJ10
theorem cp_J11 : CP 24 RJ11 TJ11 4 := ⟨rfl, in_J11, tyJ11, tyJ11_ok⟩
theorem cn_J11 : CPn TJ11 4 := nmJ11
theorem cp_J8 : CP 25 RJ8 TJ8 6 := ⟨rfl, in_J8, tyJ8, tyJ8_ok⟩
theorem cn_J8 : CPn TJ8 6 := nmJ8
theorem cp_J19 : CP 26 RJ19 TJ19 6 := ⟨rfl, in_J19, tyJ19, tyJ19_ok⟩
theorem cn_J19 : CPn TJ19 6 := nmJ19
