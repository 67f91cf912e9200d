/-! V-ROWS: plain instructions -/
set_option maxRecDepth 100000
section VRows
variable {X : XT} {G : GT} {A : Nat → Prop} {h0 : AH} {cc : ByteArray} {nL : Nat} {own : String} {rm : Room} {ret : Option FieldType} {Q : State → Prop} {h : AH} {k n : Nat} {pc : Nat} {lv : List (Nat × SV)} {st : List SV}
theorem v_iconst (hO : OKX X G A cc nL own rm ret) {z : Int} (d : decode cc pc = .ok (.iconst z, 1)) (kk : VV X G A h0 nL Q h k n (pc + 1) lv (.inl z :: st)) : VV X G A h0 nL Q h k n (pc) lv (st) := by
  intro H locs ls hR hS hf hL
  have q := kk H locs ls hR hS hf hL
  exact lv_iconst hO.x hO.b d rfl q
theorem v_bipush (hO : OKX X G A cc nL own rm ret) {z : Int} (d : decode cc pc = .ok (.bipush z, 2)) (hv : (Int8.ofInt z).toInt32 = zi z) (kk : VV X G A h0 nL Q h k n (pc + 2) lv (.inl z :: st)) : VV X G A h0 nL Q h k n (pc) lv (st) := by
  intro H locs ls hR hS hf hL
  have q := kk H locs ls hR hS hf hL
  exact lv_bipush hO.x hO.b d hv q
theorem v_sipush (hO : OKX X G A cc nL own rm ret) {z : Int} (d : decode cc pc = .ok (.sipush z, 3)) (hv : (Int16.ofInt z).toInt32 = zi z) (kk : VV X G A h0 nL Q h k n (pc + 3) lv (.inl z :: st)) : VV X G A h0 nL Q h k n (pc) lv (st) := by
  intro H locs ls hR hS hf hL
  have q := kk H locs ls hR hS hf hL
  exact lv_sipush hO.x hO.b d hv q
theorem v_ldc (hO : OKX X G A cc nL own rm ret) {ix : Nat} {v : Int32} {z : Int} (d : decode cc pc = .ok (.ldc ix, 2)) (hq : Jvm.Cond.constant own ix v ∈ lw_all) (hv : v = zi z) (kk : VV X G A h0 nL Q h k n (pc + 2) lv (.inl z :: st)) : VV X G A h0 nL Q h k n (pc) lv (st) := by
  intro H locs ls hR hS hf hL
  have q := kk H locs ls hR hS hf hL
  subst hv; exact lv_ldc hO.x hO.b hO.ow (hO.ts _ hq) d q
theorem v_ldc2 (hO : OKX X G A cc nL own rm ret) {ix : Nat} {v : Int64} {z : Int} (d : decode cc pc = .ok (.ldc2_w ix, 3)) (hq : Jvm.Cond.constantLong own ix v ∈ lw_all) (hv : v = zl z) (kk : VV X G A h0 nL Q h k n (pc + 3) lv (.inr (.long (zl z)) :: st)) : VV X G A h0 nL Q h k n (pc) lv (st) := by
  intro H locs ls hR hS hf hL
  have q := kk H locs ls hR hS hf hL
  subst hv; exact lv_ldc2 hO.x hO.b hO.ow (hO.ts _ hq) d q
theorem v_lconst (hO : OKX X G A cc nL own rm ret) {i : Fin 2} {z : Int} (d : decode cc pc = .ok (.lconst i, 1)) (hv : Int64.ofNat (i : Nat) = zl z) (kk : VV X G A h0 nL Q h k n (pc + 1) lv (.inr (.long (zl z)) :: st)) : VV X G A h0 nL Q h k n (pc) lv (st) := by
  intro H locs ls hR hS hf hL
  have q := kk H locs ls hR hS hf hL
  exact lv_lconst hO.x hO.b d hv q
theorem v_null (hO : OKX X G A cc nL own rm ret) (d : decode cc pc = .ok (.aconst_null, 1)) (kk : VV X G A h0 nL Q h k n (pc + 1) lv (snull :: st)) : VV X G A h0 nL Q h k n (pc) lv (st) := by
  intro H locs ls hR hS hf hL
  have q := kk H locs ls hR hS hf hL
  exact lv_null hO.x hO.b d q
theorem v_dconst0 (hO : OKX X G A cc nL own rm ret) (d : decode cc pc = .ok (.dconst 0, 1)) (kk : VV X G A h0 nL Q h k n (pc + 1) lv (.inr (.double FP.dconst0) :: st)) : VV X G A h0 nL Q h k n (pc) lv (st) := by
  intro H locs ls hR hS hf hL
  have q := kk H locs ls hR hS hf hL
  exact lv_dconst0 hO.x hO.b d q
theorem v_fconst0 (hO : OKX X G A cc nL own rm ret) (d : decode cc pc = .ok (.fconst 0, 1)) (kk : VV X G A h0 nL Q h k n (pc + 1) lv (.inr (.float FP.fconst0) :: st)) : VV X G A h0 nL Q h k n (pc) lv (st) := by
  intro H locs ls hR hS hf hL
  have q := kk H locs ls hR hS hf hL
  exact lv_fconst0 hO.x hO.b d q
theorem v_iload_n (hO : OKX X G A cc nL own rm ret) {i : Fin 4} {z : Int} (d : decode cc pc = .ok (.iload_n i, 1)) (hl : lk lv (i : Nat) = some (.inl z)) (kk : VV X G A h0 nL Q h k n (pc + 1) lv (.inl z :: st)) : VV X G A h0 nL Q h k n (pc) lv (st) := by
  intro H locs ls hR hS hf hL
  have q := kk H locs ls hR hS hf hL
  exact lv_iload_n hO.x hO.b d rfl (lk_at hL hl) q
theorem v_iload (hO : OKX X G A cc nL own rm ret) {i : Nat} {z : Int} (d : decode cc pc = .ok (.iload i, 2)) (hl : lk lv i = some (.inl z)) (kk : VV X G A h0 nL Q h k n (pc + 2) lv (.inl z :: st)) : VV X G A h0 nL Q h k n (pc) lv (st) := by
  intro H locs ls hR hS hf hL
  have q := kk H locs ls hR hS hf hL
  exact lv_iload hO.x hO.b d (lk_at hL hl) q
theorem v_aload_n (hO : OKX X G A cc nL own rm ret) {i : Fin 4} {a : Nat} (d : decode cc pc = .ok (.aload_n i, 1)) (hl : lk lv (i : Nat) = some (sref a)) (kk : VV X G A h0 nL Q h k n (pc + 1) lv (sref a :: st)) : VV X G A h0 nL Q h k n (pc) lv (st) := by
  intro H locs ls hR hS hf hL
  have q := kk H locs ls hR hS hf hL
  exact lv_aload_n hO.x hO.b d rfl (lk_at hL hl) q
theorem v_aload (hO : OKX X G A cc nL own rm ret) {i : Nat} {a : Nat} (d : decode cc pc = .ok (.aload i, 2)) (hl : lk lv i = some (sref a)) (kk : VV X G A h0 nL Q h k n (pc + 2) lv (sref a :: st)) : VV X G A h0 nL Q h k n (pc) lv (st) := by
  intro H locs ls hR hS hf hL
  have q := kk H locs ls hR hS hf hL
  exact lv_aload hO.x hO.b d (lk_at hL hl) q
theorem v_aload_nN (hO : OKX X G A cc nL own rm ret) {i : Fin 4} (d : decode cc pc = .ok (.aload_n i, 1)) (hl : lk lv (i : Nat) = some snull) (kk : VV X G A h0 nL Q h k n (pc + 1) lv (snull :: st)) : VV X G A h0 nL Q h k n (pc) lv (st) := by
  intro H locs ls hR hS hf hL
  have q := kk H locs ls hR hS hf hL
  exact lv_aload_nN hO.x hO.b d rfl (lk_at hL hl) q
theorem v_aloadN (hO : OKX X G A cc nL own rm ret) {i : Nat} (d : decode cc pc = .ok (.aload i, 2)) (hl : lk lv i = some snull) (kk : VV X G A h0 nL Q h k n (pc + 2) lv (snull :: st)) : VV X G A h0 nL Q h k n (pc) lv (st) := by
  intro H locs ls hR hS hf hL
  have q := kk H locs ls hR hS hf hL
  exact lv_aloadN hO.x hO.b d (lk_at hL hl) q
theorem v_lload_n (hO : OKX X G A cc nL own rm ret) {i : Fin 4} {y : Int64} (d : decode cc pc = .ok (.lload_n i, 1)) (hl : lk lv (i : Nat) = some (.inr (.long y))) (kk : VV X G A h0 nL Q h k n (pc + 1) lv (.inr (.long y) :: st)) : VV X G A h0 nL Q h k n (pc) lv (st) := by
  intro H locs ls hR hS hf hL
  have q := kk H locs ls hR hS hf hL
  exact lv_lload_n hO.x hO.b d rfl (lk_at hL hl) q
theorem v_lload (hO : OKX X G A cc nL own rm ret) {i : Nat} {y : Int64} (d : decode cc pc = .ok (.lload i, 2)) (hl : lk lv i = some (.inr (.long y))) (kk : VV X G A h0 nL Q h k n (pc + 2) lv (.inr (.long y) :: st)) : VV X G A h0 nL Q h k n (pc) lv (st) := by
  intro H locs ls hR hS hf hL
  have q := kk H locs ls hR hS hf hL
  exact lv_lload hO.x hO.b d (lk_at hL hl) q
theorem v_dload (hO : OKX X G A cc nL own rm ret) {i : Nat} {y : UInt64} (d : decode cc pc = .ok (.dload i, 2)) (hl : lk lv i = some (.inr (.double y))) (kk : VV X G A h0 nL Q h k n (pc + 2) lv (.inr (.double y) :: st)) : VV X G A h0 nL Q h k n (pc) lv (st) := by
  intro H locs ls hR hS hf hL
  have q := kk H locs ls hR hS hf hL
  exact lv_dload hO.x hO.b d (lk_at hL hl) q
def lst2 (lv : List (Nat × SV)) (i : Nat) (v : SV) : List (Nat × SV) := (i, v) :: lv.filter (fun q => !(q.1 == i) && (!(q.1 == i + 1) && !(q.1 + 1 == i && (zv q.2).category == 2)))
theorem lst2_z (lv : List (Nat × SV)) (i : Nat) (v : SV) : (i, zv v) :: (zlv lv).filter (fun q => !(q.1 == i) && (!(q.1 == i + 1) && !(q.1 + 1 == i && q.2.category == 2))) = zlv (lst2 lv i v) := by
  unfold lst2 zlv
  rw [List.filter_map]
  rfl
theorem v_istore_n (hO : OKX X G A cc nL own rm ret) {i : Fin 4} {z : Int} {lv' : List (Nat × SV)} (d : decode cc pc = .ok (.istore_n i, 1)) (hn : (i : Nat) < nL) (hl : lst lv (i : Nat) (.inl z) = lv') (kk : VV X G A h0 nL Q h k n (pc + 1) lv' (st)) : VV X G A h0 nL Q h k n (pc) lv (.inl z :: st) := by
  subst hl
  intro H locs ls hR hS hf hL
  exact lv_istore_n hO.x hO.b d rfl hL hn (lst_z lv (i : Nat) (.inl z)) (fun ls1 hL1 => kk H locs ls1 hR hS hf hL1)
theorem v_istore (hO : OKX X G A cc nL own rm ret) {i : Nat} {z : Int} {lv' : List (Nat × SV)} (d : decode cc pc = .ok (.istore i, 2)) (hn : i < nL) (hl : lst lv i (.inl z) = lv') (kk : VV X G A h0 nL Q h k n (pc + 2) lv' (st)) : VV X G A h0 nL Q h k n (pc) lv (.inl z :: st) := by
  subst hl
  intro H locs ls hR hS hf hL
  exact lv_istore hO.x hO.b d hL hn (lst_z lv i (.inl z)) (fun ls1 hL1 => kk H locs ls1 hR hS hf hL1)
theorem v_astore_n (hO : OKX X G A cc nL own rm ret) {i : Fin 4} {a : Nat} {lv' : List (Nat × SV)} (d : decode cc pc = .ok (.astore_n i, 1)) (hn : (i : Nat) < nL) (hl : lst lv (i : Nat) (sref a) = lv') (kk : VV X G A h0 nL Q h k n (pc + 1) lv' (st)) : VV X G A h0 nL Q h k n (pc) lv (sref a :: st) := by
  subst hl
  intro H locs ls hR hS hf hL
  exact lv_astore_n hO.x hO.b d rfl hL hn (lst_z lv (i : Nat) (sref a)) (fun ls1 hL1 => kk H locs ls1 hR hS hf hL1)
theorem v_astore (hO : OKX X G A cc nL own rm ret) {i : Nat} {a : Nat} {lv' : List (Nat × SV)} (d : decode cc pc = .ok (.astore i, 2)) (hn : i < nL) (hl : lst lv i (sref a) = lv') (kk : VV X G A h0 nL Q h k n (pc + 2) lv' (st)) : VV X G A h0 nL Q h k n (pc) lv (sref a :: st) := by
  subst hl
  intro H locs ls hR hS hf hL
  exact lv_astore hO.x hO.b d hL hn (lst_z lv i (sref a)) (fun ls1 hL1 => kk H locs ls1 hR hS hf hL1)
theorem v_astore_nN (hO : OKX X G A cc nL own rm ret) {i : Fin 4} {lv' : List (Nat × SV)} (d : decode cc pc = .ok (.astore_n i, 1)) (hn : (i : Nat) < nL) (hl : lst lv (i : Nat) (snull) = lv') (kk : VV X G A h0 nL Q h k n (pc + 1) lv' (st)) : VV X G A h0 nL Q h k n (pc) lv (snull :: st) := by
  subst hl
  intro H locs ls hR hS hf hL
  exact lv_astore_nN hO.x hO.b d rfl hL hn (lst_z lv (i : Nat) (snull)) (fun ls1 hL1 => kk H locs ls1 hR hS hf hL1)
theorem v_astoreN (hO : OKX X G A cc nL own rm ret) {i : Nat} {lv' : List (Nat × SV)} (d : decode cc pc = .ok (.astore i, 2)) (hn : i < nL) (hl : lst lv i (snull) = lv') (kk : VV X G A h0 nL Q h k n (pc + 2) lv' (st)) : VV X G A h0 nL Q h k n (pc) lv (snull :: st) := by
  subst hl
  intro H locs ls hR hS hf hL
  exact lv_astoreN hO.x hO.b d hL hn (lst_z lv i (snull)) (fun ls1 hL1 => kk H locs ls1 hR hS hf hL1)
theorem v_lstore_n (hO : OKX X G A cc nL own rm ret) {i : Fin 4} {y : Int64} {lv' : List (Nat × SV)} (d : decode cc pc = .ok (.lstore_n i, 1)) (hn : (i : Nat) + 1 < nL) (hl : lst2 lv (i : Nat) (.inr (.long y)) = lv') (kk : VV X G A h0 nL Q h k n (pc + 1) lv' (st)) : VV X G A h0 nL Q h k n (pc) lv (.inr (.long y) :: st) := by
  subst hl
  intro H locs ls hR hS hf hL
  exact lv_lstore_n hO.x hO.b d rfl hL hn (lst2_z lv (i : Nat) (.inr (.long y))) (fun ls1 hL1 => kk H locs ls1 hR hS hf hL1)
theorem v_lstore (hO : OKX X G A cc nL own rm ret) {i : Nat} {y : Int64} {lv' : List (Nat × SV)} (d : decode cc pc = .ok (.lstore i, 2)) (hn : i + 1 < nL) (hl : lst2 lv i (.inr (.long y)) = lv') (kk : VV X G A h0 nL Q h k n (pc + 2) lv' (st)) : VV X G A h0 nL Q h k n (pc) lv (.inr (.long y) :: st) := by
  subst hl
  intro H locs ls hR hS hf hL
  exact lv_lstore hO.x hO.b d hL hn (lst2_z lv i (.inr (.long y))) (fun ls1 hL1 => kk H locs ls1 hR hS hf hL1)
theorem v_dstore (hO : OKX X G A cc nL own rm ret) {i : Nat} {y : UInt64} {lv' : List (Nat × SV)} (d : decode cc pc = .ok (.dstore i, 2)) (hn : i + 1 < nL) (hl : lst2 lv i (.inr (.double y)) = lv') (kk : VV X G A h0 nL Q h k n (pc + 2) lv' (st)) : VV X G A h0 nL Q h k n (pc) lv (.inr (.double y) :: st) := by
  subst hl
  intro H locs ls hR hS hf hL
  exact lv_dstore hO.x hO.b d hL hn (lst2_z lv i (.inr (.double y))) (fun ls1 hL1 => kk H locs ls1 hR hS hf hL1)
theorem v_iinc (hO : OKX X G A cc nL own rm ret) {i : Nat} {c z : Int} {lv' : List (Nat × SV)} (d : decode cc pc = .ok (.iinc i c, 3)) (hk : lk lv i = some (.inl z)) (hn : i < nL) (hl : lst lv i (.inl (z + c)) = lv') (kk : VV X G A h0 nL Q h k n (pc + 3) lv' (st)) : VV X G A h0 nL Q h k n (pc) lv (st) := by
  subst hl
  intro H locs ls hR hS hf hL
  obtain ⟨j, hj⟩ := List.getElem?_of_mem (List.mem_map.mpr ⟨(i, Sum.inl z), lk_mem hk, rfl⟩ : (i, zv (Sum.inl z)) ∈ zlv lv)
  exact lv_iinc hO.x hO.b d hL hj (v := zi (z + c)) (zi_add z c) hn (lst_z lv i (.inl (z + c))) (fun ls1 hL1 => kk H locs ls1 hR hS hf hL1)
theorem v_iadd (hO : OKX X G A cc nL own rm ret) {a b : Int} (d : decode cc pc = .ok (.iadd, 1)) (kk : VV X G A h0 nL Q h k n (pc + 1) lv (.inl (a + b) :: st)) : VV X G A h0 nL Q h k n (pc) lv (.inl b :: .inl a :: st) := by
  intro H locs ls hR hS hf hL
  have q := kk H locs ls hR hS hf hL
  refine lv_iadd hO.x hO.b d ?_
  rw [zi_add]; exact q
theorem v_isub (hO : OKX X G A cc nL own rm ret) {a b : Int} (d : decode cc pc = .ok (.isub, 1)) (kk : VV X G A h0 nL Q h k n (pc + 1) lv (.inl (a - b) :: st)) : VV X G A h0 nL Q h k n (pc) lv (.inl b :: .inl a :: st) := by
  intro H locs ls hR hS hf hL
  have q := kk H locs ls hR hS hf hL
  refine lv_isub hO.x hO.b d ?_
  rw [zi_sub]; exact q
theorem v_imul (hO : OKX X G A cc nL own rm ret) {a b : Int} (d : decode cc pc = .ok (.imul, 1)) (kk : VV X G A h0 nL Q h k n (pc + 1) lv (.inl (a * b) :: st)) : VV X G A h0 nL Q h k n (pc) lv (.inl b :: .inl a :: st) := by
  intro H locs ls hR hS hf hL
  have q := kk H locs ls hR hS hf hL
  refine lv_imul hO.x hO.b d ?_
  rw [zi_mul]; exact q
theorem v_ineg (hO : OKX X G A cc nL own rm ret) {a : Int} (d : decode cc pc = .ok (.ineg, 1)) (kk : VV X G A h0 nL Q h k n (pc + 1) lv (.inl (-a) :: st)) : VV X G A h0 nL Q h k n (pc) lv (.inl a :: st) := by
  intro H locs ls hR hS hf hL
  have q := kk H locs ls hR hS hf hL
  refine lv_ineg hO.x hO.b d ?_
  rw [zi_neg]; exact q
theorem zi_ne0 {b : Int} (h : 0 < b) (hb : zR b) : ¬ zi b = 0 := fun e => by
  have h1 := (zi_eq hb zR_0).mp (e.trans zi_0.symm)
  omega
theorem v_idiv (hO : OKX X G A cc nL own rm ret) {a b : Int} (d : decode cc pc = .ok (.idiv, 1)) (h00 : 0 ≤ a) (ha : zR a) (hb : 0 < b) (hb2 : zR b) (kk : VV X G A h0 nL Q h k n (pc + 1) lv (.inl (a / b) :: st)) : VV X G A h0 nL Q h k n (pc) lv (.inl b :: .inl a :: st) := by
  intro H locs ls hR hS hf hL
  have q := kk H locs ls hR hS hf hL
  refine lv_idiv hO.x hO.b d (zi_ne0 hb hb2) ?_
  rw [zi_div h00 ha hb hb2]; exact q
theorem v_irem (hO : OKX X G A cc nL own rm ret) {a b : Int} (d : decode cc pc = .ok (.irem, 1)) (h00 : 0 ≤ a) (ha : zR a) (hb : 0 < b) (hb2 : zR b) (kk : VV X G A h0 nL Q h k n (pc + 1) lv (.inl (a % b) :: st)) : VV X G A h0 nL Q h k n (pc) lv (.inl b :: .inl a :: st) := by
  intro H locs ls hR hS hf hL
  have q := kk H locs ls hR hS hf hL
  refine lv_irem hO.x hO.b d (zi_ne0 hb hb2) ?_
  rw [zi_rem h00 ha hb hb2]; exact q
theorem v_ishr (hO : OKX X G A cc nL own rm ret) {a b z : Int} (d : decode cc pc = .ok (.ishr, 1)) (hv : zi a >>> (zi b &&& 31) = zi z) (kk : VV X G A h0 nL Q h k n (pc + 1) lv (.inl z :: st)) : VV X G A h0 nL Q h k n (pc) lv (.inl b :: .inl a :: st) := by
  intro H locs ls hR hS hf hL
  have q := kk H locs ls hR hS hf hL
  refine lv_ishr hO.x hO.b d ?_
  rw [hv]; exact q
theorem v_ishl (hO : OKX X G A cc nL own rm ret) {a b z : Int} (d : decode cc pc = .ok (.ishl, 1)) (hv : zi a <<< (zi b &&& 31) = zi z) (kk : VV X G A h0 nL Q h k n (pc + 1) lv (.inl z :: st)) : VV X G A h0 nL Q h k n (pc) lv (.inl b :: .inl a :: st) := by
  intro H locs ls hR hS hf hL
  have q := kk H locs ls hR hS hf hL
  refine lv_ishl hO.x hO.b d ?_
  rw [hv]; exact q
theorem v_iand (hO : OKX X G A cc nL own rm ret) {a b z : Int} (d : decode cc pc = .ok (.iand, 1)) (hv : zi a &&& zi b = zi z) (kk : VV X G A h0 nL Q h k n (pc + 1) lv (.inl z :: st)) : VV X G A h0 nL Q h k n (pc) lv (.inl b :: .inl a :: st) := by
  intro H locs ls hR hS hf hL
  have q := kk H locs ls hR hS hf hL
  refine lv_iand hO.x hO.b d ?_
  rw [hv]; exact q
theorem v_ior (hO : OKX X G A cc nL own rm ret) {a b z : Int} (d : decode cc pc = .ok (.ior, 1)) (hv : zi a ||| zi b = zi z) (kk : VV X G A h0 nL Q h k n (pc + 1) lv (.inl z :: st)) : VV X G A h0 nL Q h k n (pc) lv (.inl b :: .inl a :: st) := by
  intro H locs ls hR hS hf hL
  have q := kk H locs ls hR hS hf hL
  refine lv_ior hO.x hO.b d ?_
  rw [hv]; exact q
theorem v_ixor (hO : OKX X G A cc nL own rm ret) {a b z : Int} (d : decode cc pc = .ok (.ixor, 1)) (hv : zi a ^^^ zi b = zi z) (kk : VV X G A h0 nL Q h k n (pc + 1) lv (.inl z :: st)) : VV X G A h0 nL Q h k n (pc) lv (.inl b :: .inl a :: st) := by
  intro H locs ls hR hS hf hL
  have q := kk H locs ls hR hS hf hL
  refine lv_ixor hO.x hO.b d ?_
  rw [hv]; exact q
theorem v_i2b (hO : OKX X G A cc nL own rm ret) {a z : Int} (d : decode cc pc = .ok (.i2b, 1)) (hv : (zi a).toInt8.toInt32 = zi z) (kk : VV X G A h0 nL Q h k n (pc + 1) lv (.inl z :: st)) : VV X G A h0 nL Q h k n (pc) lv (.inl a :: st) := by
  intro H locs ls hR hS hf hL
  have q := kk H locs ls hR hS hf hL
  exact lv_i2b hO.x hO.b d hv q
theorem v_i2c (hO : OKX X G A cc nL own rm ret) {a z : Int} (d : decode cc pc = .ok (.i2c, 1)) (hv : ((zi a).toUInt32 % 65536).toInt32 = zi z) (kk : VV X G A h0 nL Q h k n (pc + 1) lv (.inl z :: st)) : VV X G A h0 nL Q h k n (pc) lv (.inl a :: st) := by
  intro H locs ls hR hS hf hL
  have q := kk H locs ls hR hS hf hL
  exact lv_i2c hO.x hO.b d hv q
theorem zi_i2l {a : Int} (ha : zR a) : (zi a).toInt64 = zl a := by
  apply Int64.toInt_inj.mp
  rw [Int32.toInt_toInt64, zi_toInt ha]
  unfold zR at ha
  exact (Int64.toInt_ofInt_of_le (by omega) (by omega)).symm
theorem v_i2l (hO : OKX X G A cc nL own rm ret) {a : Int} (d : decode cc pc = .ok (.i2l, 1)) (ha : zR a) (kk : VV X G A h0 nL Q h k n (pc + 1) lv (.inr (.long (zl a)) :: st)) : VV X G A h0 nL Q h k n (pc) lv (.inl a :: st) := by
  intro H locs ls hR hS hf hL
  have q := kk H locs ls hR hS hf hL
  exact lv_i2l hO.x hO.b d (zi_i2l ha) q
theorem zl_l2i (a : Int) : (zl a).toInt32 = zi a := by
  apply Int32.toInt_inj.mp
  unfold zl zi
  rw [Int64.toInt_toInt32, Int64.toInt_ofInt, Int32.toInt_ofInt]
  exact Int.bmod_bmod_of_dvd (by decide)
theorem v_l2i (hO : OKX X G A cc nL own rm ret) {a : Int} (d : decode cc pc = .ok (.l2i, 1)) (kk : VV X G A h0 nL Q h k n (pc + 1) lv (.inl a :: st)) : VV X G A h0 nL Q h k n (pc) lv (.inr (.long (zl a)) :: st) := by
  intro H locs ls hR hS hf hL
  have q := kk H locs ls hR hS hf hL
  exact lv_l2i hO.x hO.b d (zl_l2i a) q
theorem zl_add (a b : Int) : zl a + zl b = zl (a + b) := (Int64.ofInt_add a b).symm
theorem zl_sub (a b : Int) : zl a - zl b = zl (a - b) := (Int64.ofInt_sub a b).symm
theorem zl_mul (a b : Int) : zl a * zl b = zl (a * b) := (Int64.ofInt_mul a b).symm
theorem v_ladd (hO : OKX X G A cc nL own rm ret) {a b : Int} (d : decode cc pc = .ok (.ladd, 1)) (kk : VV X G A h0 nL Q h k n (pc + 1) lv (.inr (.long (zl (a + b))) :: st)) : VV X G A h0 nL Q h k n (pc) lv (.inr (.long (zl b)) :: .inr (.long (zl a)) :: st) := by
  intro H locs ls hR hS hf hL
  have q := kk H locs ls hR hS hf hL
  refine lv_ladd hO.x hO.b d ?_
  rw [zl_add]; exact q
theorem v_lsub (hO : OKX X G A cc nL own rm ret) {a b : Int} (d : decode cc pc = .ok (.lsub, 1)) (kk : VV X G A h0 nL Q h k n (pc + 1) lv (.inr (.long (zl (a - b))) :: st)) : VV X G A h0 nL Q h k n (pc) lv (.inr (.long (zl b)) :: .inr (.long (zl a)) :: st) := by
  intro H locs ls hR hS hf hL
  have q := kk H locs ls hR hS hf hL
  refine lv_lsub hO.x hO.b d ?_
  rw [zl_sub]; exact q
theorem v_lmul (hO : OKX X G A cc nL own rm ret) {a b : Int} (d : decode cc pc = .ok (.lmul, 1)) (kk : VV X G A h0 nL Q h k n (pc + 1) lv (.inr (.long (zl (a * b))) :: st)) : VV X G A h0 nL Q h k n (pc) lv (.inr (.long (zl b)) :: .inr (.long (zl a)) :: st) := by
  intro H locs ls hR hS hf hL
  have q := kk H locs ls hR hS hf hL
  refine lv_lmul hO.x hO.b d ?_
  rw [zl_mul]; exact q
theorem v_land (hO : OKX X G A cc nL own rm ret) {a b z : Int} (d : decode cc pc = .ok (.land, 1)) (hv : zl a &&& zl b = zl z) (kk : VV X G A h0 nL Q h k n (pc + 1) lv (.inr (.long (zl z)) :: st)) : VV X G A h0 nL Q h k n (pc) lv (.inr (.long (zl b)) :: .inr (.long (zl a)) :: st) := by
  intro H locs ls hR hS hf hL
  have q := kk H locs ls hR hS hf hL
  refine lv_land hO.x hO.b d ?_
  rw [hv]; exact q
theorem v_lor (hO : OKX X G A cc nL own rm ret) {a b z : Int} (d : decode cc pc = .ok (.lor, 1)) (hv : zl a ||| zl b = zl z) (kk : VV X G A h0 nL Q h k n (pc + 1) lv (.inr (.long (zl z)) :: st)) : VV X G A h0 nL Q h k n (pc) lv (.inr (.long (zl b)) :: .inr (.long (zl a)) :: st) := by
  intro H locs ls hR hS hf hL
  have q := kk H locs ls hR hS hf hL
  refine lv_lor hO.x hO.b d ?_
  rw [hv]; exact q
theorem v_dup (hO : OKX X G A cc nL own rm ret) {v : SV} (d : decode cc pc = .ok (.dup, 1)) (c1 : (zv v).category = 1) (kk : VV X G A h0 nL Q h k n (pc + 1) lv (v :: v :: st)) : VV X G A h0 nL Q h k n (pc) lv (v :: st) := by
  intro H locs ls hR hS hf hL
  have q := kk H locs ls hR hS hf hL
  exact lv_dup hO.x hO.b d c1 q
theorem v_pop (hO : OKX X G A cc nL own rm ret) {v : SV} (d : decode cc pc = .ok (.pop, 1)) (c1 : (zv v).category = 1) (kk : VV X G A h0 nL Q h k n (pc + 1) lv (st)) : VV X G A h0 nL Q h k n (pc) lv (v :: st) := by
  intro H locs ls hR hS hf hL
  have q := kk H locs ls hR hS hf hL
  exact lv_pop hO.x hO.b d c1 q
theorem v_dup_x1 (hO : OKX X G A cc nL own rm ret) {v w : SV} (d : decode cc pc = .ok (.dup_x1, 1)) (c1 : (zv v).category = 1) (c2 : (zv w).category = 1) (kk : VV X G A h0 nL Q h k n (pc + 1) lv (v :: w :: v :: st)) : VV X G A h0 nL Q h k n (pc) lv (v :: w :: st) := by
  intro H locs ls hR hS hf hL
  have q := kk H locs ls hR hS hf hL
  exact lv_dup_x1 hO.x hO.b d c1 c2 q
theorem v_dup_x2 (hO : OKX X G A cc nL own rm ret) {v w u : SV} (d : decode cc pc = .ok (.dup_x2, 1)) (c1 : (zv v).category = 1) (c2 : (zv w).category = 1) (c3 : (zv u).category = 1) (kk : VV X G A h0 nL Q h k n (pc + 1) lv (v :: w :: u :: v :: st)) : VV X G A h0 nL Q h k n (pc) lv (v :: w :: u :: st) := by
  intro H locs ls hR hS hf hL
  have q := kk H locs ls hR hS hf hL
  exact lv_dup_x2 hO.x hO.b d c1 c2 c3 q
theorem v_dup2 (hO : OKX X G A cc nL own rm ret) {v w : SV} (d : decode cc pc = .ok (.dup2, 1)) (c1 : (zv v).category = 1) (c2 : (zv w).category = 1) (kk : VV X G A h0 nL Q h k n (pc + 1) lv (v :: w :: v :: w :: st)) : VV X G A h0 nL Q h k n (pc) lv (v :: w :: st) := by
  intro H locs ls hR hS hf hL
  have q := kk H locs ls hR hS hf hL
  exact lv_dup2_11 hO.x hO.b d c1 c2 q
theorem v_goto (hO : OKX X G A cc nL own rm ret) {off : Int} {tgt : Nat} (d : decode cc pc = .ok (.goto off, 3)) (ht : (pc : Int) + off = (tgt : Int)) (kk : VV X G A h0 nL Q h k n (tgt) lv (st)) : VV X G A h0 nL Q h k n (pc) lv (st) := by
  intro H locs ls hR hS hf hL
  have q := kk H locs ls hR hS hf hL
  exact lv_goto hO.x hO.b d ht q
theorem v_icmp_eq (hO : OKX X G A cc nL own rm ret) {a b : Int} {off : Int} {tgt : Nat} (d : decode cc pc = .ok (.if_icmp .eq off, 3)) (ht : (pc : Int) + off = (tgt : Int)) (ha : zR a) (hb : zR b) (kt : a = b → VV X G A h0 nL Q h k n (tgt) lv (st)) (kf : a ≠ b → VV X G A h0 nL Q h k n (pc + 3) lv (st)) : VV X G A h0 nL Q h k n (pc) lv (.inl b :: .inl a :: st) := by
  intro H locs ls hR hS hf hL
  exact lv_icmp_eq hO.x hO.b d ht (fun c => kt ((zi_eq ha hb).mp c) H locs ls hR hS hf hL) (fun c => kf (fun e => c ((zi_eq ha hb).mpr e)) H locs ls hR hS hf hL)
theorem v_icmp_ne (hO : OKX X G A cc nL own rm ret) {a b : Int} {off : Int} {tgt : Nat} (d : decode cc pc = .ok (.if_icmp .ne off, 3)) (ht : (pc : Int) + off = (tgt : Int)) (ha : zR a) (hb : zR b) (kt : a ≠ b → VV X G A h0 nL Q h k n (tgt) lv (st)) (kf : a = b → VV X G A h0 nL Q h k n (pc + 3) lv (st)) : VV X G A h0 nL Q h k n (pc) lv (.inl b :: .inl a :: st) := by
  intro H locs ls hR hS hf hL
  exact lv_icmp_ne hO.x hO.b d ht (fun c => kt (fun e => c ((zi_eq ha hb).mpr e)) H locs ls hR hS hf hL) (fun c => kf ((zi_eq ha hb).mp c) H locs ls hR hS hf hL)
theorem v_icmp_lt (hO : OKX X G A cc nL own rm ret) {a b : Int} {off : Int} {tgt : Nat} (d : decode cc pc = .ok (.if_icmp .lt off, 3)) (ht : (pc : Int) + off = (tgt : Int)) (ha : zR a) (hb : zR b) (kt : a < b → VV X G A h0 nL Q h k n (tgt) lv (st)) (kf : b ≤ a → VV X G A h0 nL Q h k n (pc + 3) lv (st)) : VV X G A h0 nL Q h k n (pc) lv (.inl b :: .inl a :: st) := by
  intro H locs ls hR hS hf hL
  exact lv_icmp_lt hO.x hO.b d ht (fun c => kt ((zi_lt ha hb).mp c) H locs ls hR hS hf hL) (fun c => kf (Int.not_lt.mp fun e => c ((zi_lt ha hb).mpr e)) H locs ls hR hS hf hL)
theorem v_icmp_ge (hO : OKX X G A cc nL own rm ret) {a b : Int} {off : Int} {tgt : Nat} (d : decode cc pc = .ok (.if_icmp .ge off, 3)) (ht : (pc : Int) + off = (tgt : Int)) (ha : zR a) (hb : zR b) (kt : b ≤ a → VV X G A h0 nL Q h k n (tgt) lv (st)) (kf : a < b → VV X G A h0 nL Q h k n (pc + 3) lv (st)) : VV X G A h0 nL Q h k n (pc) lv (.inl b :: .inl a :: st) := by
  intro H locs ls hR hS hf hL
  exact lv_icmp_ge hO.x hO.b d ht (fun c => kt ((zi_le hb ha).mp c) H locs ls hR hS hf hL) (fun c => kf (Int.not_le.mp fun e => c ((zi_le hb ha).mpr e)) H locs ls hR hS hf hL)
theorem v_icmp_gt (hO : OKX X G A cc nL own rm ret) {a b : Int} {off : Int} {tgt : Nat} (d : decode cc pc = .ok (.if_icmp .gt off, 3)) (ht : (pc : Int) + off = (tgt : Int)) (ha : zR a) (hb : zR b) (kt : b < a → VV X G A h0 nL Q h k n (tgt) lv (st)) (kf : a ≤ b → VV X G A h0 nL Q h k n (pc + 3) lv (st)) : VV X G A h0 nL Q h k n (pc) lv (.inl b :: .inl a :: st) := by
  intro H locs ls hR hS hf hL
  exact lv_icmp_gt hO.x hO.b d ht (fun c => kt ((zi_lt hb ha).mp c) H locs ls hR hS hf hL) (fun c => kf (Int.not_lt.mp fun e => c ((zi_lt hb ha).mpr e)) H locs ls hR hS hf hL)
theorem v_icmp_le (hO : OKX X G A cc nL own rm ret) {a b : Int} {off : Int} {tgt : Nat} (d : decode cc pc = .ok (.if_icmp .le off, 3)) (ht : (pc : Int) + off = (tgt : Int)) (ha : zR a) (hb : zR b) (kt : a ≤ b → VV X G A h0 nL Q h k n (tgt) lv (st)) (kf : b < a → VV X G A h0 nL Q h k n (pc + 3) lv (st)) : VV X G A h0 nL Q h k n (pc) lv (.inl b :: .inl a :: st) := by
  intro H locs ls hR hS hf hL
  exact lv_icmp_le hO.x hO.b d ht (fun c => kt ((zi_le ha hb).mp c) H locs ls hR hS hf hL) (fun c => kf (Int.not_le.mp fun e => c ((zi_le ha hb).mpr e)) H locs ls hR hS hf hL)
theorem v_if_eq (hO : OKX X G A cc nL own rm ret) {a : Int} {off : Int} {tgt : Nat} (d : decode cc pc = .ok (.ifCond .eq off, 3)) (ht : (pc : Int) + off = (tgt : Int)) (ha : zR a) (kt : a = 0 → VV X G A h0 nL Q h k n (tgt) lv (st)) (kf : a ≠ 0 → VV X G A h0 nL Q h k n (pc + 3) lv (st)) : VV X G A h0 nL Q h k n (pc) lv (.inl a :: st) := by
  intro H locs ls hR hS hf hL
  exact lv_if_eq hO.x hO.b d ht (fun c => kt ((zi_eq ha zR_0).mp c) H locs ls hR hS hf hL) (fun c => kf (fun e => c ((zi_eq ha zR_0).mpr e)) H locs ls hR hS hf hL)
theorem v_if_ne (hO : OKX X G A cc nL own rm ret) {a : Int} {off : Int} {tgt : Nat} (d : decode cc pc = .ok (.ifCond .ne off, 3)) (ht : (pc : Int) + off = (tgt : Int)) (ha : zR a) (kt : a ≠ 0 → VV X G A h0 nL Q h k n (tgt) lv (st)) (kf : a = 0 → VV X G A h0 nL Q h k n (pc + 3) lv (st)) : VV X G A h0 nL Q h k n (pc) lv (.inl a :: st) := by
  intro H locs ls hR hS hf hL
  exact lv_if_ne hO.x hO.b d ht (fun c => kt (fun e => c ((zi_eq ha zR_0).mpr e)) H locs ls hR hS hf hL) (fun c => kf ((zi_eq ha zR_0).mp c) H locs ls hR hS hf hL)
theorem v_if_lt (hO : OKX X G A cc nL own rm ret) {a : Int} {off : Int} {tgt : Nat} (d : decode cc pc = .ok (.ifCond .lt off, 3)) (ht : (pc : Int) + off = (tgt : Int)) (ha : zR a) (kt : a < 0 → VV X G A h0 nL Q h k n (tgt) lv (st)) (kf : 0 ≤ a → VV X G A h0 nL Q h k n (pc + 3) lv (st)) : VV X G A h0 nL Q h k n (pc) lv (.inl a :: st) := by
  intro H locs ls hR hS hf hL
  exact lv_if_lt hO.x hO.b d ht (fun c => kt ((zi_lt ha zR_0).mp c) H locs ls hR hS hf hL) (fun c => kf (Int.not_lt.mp fun e => c ((zi_lt ha zR_0).mpr e)) H locs ls hR hS hf hL)
theorem v_if_ge (hO : OKX X G A cc nL own rm ret) {a : Int} {off : Int} {tgt : Nat} (d : decode cc pc = .ok (.ifCond .ge off, 3)) (ht : (pc : Int) + off = (tgt : Int)) (ha : zR a) (kt : 0 ≤ a → VV X G A h0 nL Q h k n (tgt) lv (st)) (kf : a < 0 → VV X G A h0 nL Q h k n (pc + 3) lv (st)) : VV X G A h0 nL Q h k n (pc) lv (.inl a :: st) := by
  intro H locs ls hR hS hf hL
  exact lv_if_ge hO.x hO.b d ht (fun c => kt ((zi_le zR_0 ha).mp c) H locs ls hR hS hf hL) (fun c => kf (Int.not_le.mp fun e => c ((zi_le zR_0 ha).mpr e)) H locs ls hR hS hf hL)
theorem v_if_gt (hO : OKX X G A cc nL own rm ret) {a : Int} {off : Int} {tgt : Nat} (d : decode cc pc = .ok (.ifCond .gt off, 3)) (ht : (pc : Int) + off = (tgt : Int)) (ha : zR a) (kt : 0 < a → VV X G A h0 nL Q h k n (tgt) lv (st)) (kf : a ≤ 0 → VV X G A h0 nL Q h k n (pc + 3) lv (st)) : VV X G A h0 nL Q h k n (pc) lv (.inl a :: st) := by
  intro H locs ls hR hS hf hL
  exact lv_if_gt hO.x hO.b d ht (fun c => kt ((zi_lt zR_0 ha).mp c) H locs ls hR hS hf hL) (fun c => kf (Int.not_lt.mp fun e => c ((zi_lt zR_0 ha).mpr e)) H locs ls hR hS hf hL)
theorem v_if_le (hO : OKX X G A cc nL own rm ret) {a : Int} {off : Int} {tgt : Nat} (d : decode cc pc = .ok (.ifCond .le off, 3)) (ht : (pc : Int) + off = (tgt : Int)) (ha : zR a) (kt : a ≤ 0 → VV X G A h0 nL Q h k n (tgt) lv (st)) (kf : 0 < a → VV X G A h0 nL Q h k n (pc + 3) lv (st)) : VV X G A h0 nL Q h k n (pc) lv (.inl a :: st) := by
  intro H locs ls hR hS hf hL
  exact lv_if_le hO.x hO.b d ht (fun c => kt ((zi_le ha zR_0).mp c) H locs ls hR hS hf hL) (fun c => kf (Int.not_le.mp fun e => c ((zi_le ha zR_0).mpr e)) H locs ls hR hS hf hL)
theorem v_ifnonnull (hO : OKX X G A cc nL own rm ret) {a : Nat} {off : Int} {tgt : Nat} (d : decode cc pc = .ok (.ifnonnull off, 3)) (ht : (pc : Int) + off = (tgt : Int)) (kk : VV X G A h0 nL Q h k n (tgt) lv (st)) : VV X G A h0 nL Q h k n (pc) lv (sref a :: st) := by
  intro H locs ls hR hS hf hL
  have q := kk H locs ls hR hS hf hL
  exact lv_ifnonnull hO.x hO.b d ht q
theorem v_ifnonnullN (hO : OKX X G A cc nL own rm ret) {off : Int} {tgt : Nat} (d : decode cc pc = .ok (.ifnonnull off, 3)) (ht : (pc : Int) + off = (tgt : Int)) (kk : VV X G A h0 nL Q h k n (pc + 3) lv (st)) : VV X G A h0 nL Q h k n (pc) lv (snull :: st) := by
  intro H locs ls hR hS hf hL
  have q := kk H locs ls hR hS hf hL
  exact lv_ifnonnullN hO.x hO.b d q
theorem v_ifnull (hO : OKX X G A cc nL own rm ret) {a : Nat} {off : Int} {tgt : Nat} (d : decode cc pc = .ok (.ifnull off, 3)) (ht : (pc : Int) + off = (tgt : Int)) (kk : VV X G A h0 nL Q h k n (pc + 3) lv (st)) : VV X G A h0 nL Q h k n (pc) lv (sref a :: st) := by
  intro H locs ls hR hS hf hL
  have q := kk H locs ls hR hS hf hL
  exact lv_ifnull hO.x hO.b d q
theorem v_ifnullN (hO : OKX X G A cc nL own rm ret) {off : Int} {tgt : Nat} (d : decode cc pc = .ok (.ifnull off, 3)) (ht : (pc : Int) + off = (tgt : Int)) (kk : VV X G A h0 nL Q h k n (tgt) lv (st)) : VV X G A h0 nL Q h k n (pc) lv (snull :: st) := by
  intro H locs ls hR hS hf hL
  have q := kk H locs ls hR hS hf hL
  exact lv_ifnullN hO.x hO.b d ht q
theorem v_acmp_eq (hO : OKX X G A cc nL own rm ret) {a b : Nat} {off : Int} {tgt : Nat} (d : decode cc pc = .ok (.if_acmp .eq off, 3)) (ht : (pc : Int) + off = (tgt : Int)) (kt : a = b → VV X G A h0 nL Q h k n (tgt) lv (st)) (kf : a ≠ b → VV X G A h0 nL Q h k n (pc + 3) lv (st)) : VV X G A h0 nL Q h k n (pc) lv (sref b :: sref a :: st) := by
  intro H locs ls hR hS hf hL
  exact lv_acmp_eq (rx := some a) (ry := some b) hO.x hO.b d ht (fun c => kt (Option.some.inj c) H locs ls hR hS hf hL) (fun c => kf (fun e => c (congrArg some e)) H locs ls hR hS hf hL)
theorem v_acmp_ne (hO : OKX X G A cc nL own rm ret) {a b : Nat} {off : Int} {tgt : Nat} (d : decode cc pc = .ok (.if_acmp .ne off, 3)) (ht : (pc : Int) + off = (tgt : Int)) (kt : a ≠ b → VV X G A h0 nL Q h k n (tgt) lv (st)) (kf : a = b → VV X G A h0 nL Q h k n (pc + 3) lv (st)) : VV X G A h0 nL Q h k n (pc) lv (sref b :: sref a :: st) := by
  intro H locs ls hR hS hf hL
  exact lv_acmp_ne (rx := some a) (ry := some b) hO.x hO.b d ht (fun c => kt (fun e => c (congrArg some e)) H locs ls hR hS hf hL) (fun c => kf (Option.some.inj c) H locs ls hR hS hf hL)
theorem v_tableIn (hO : OKX X G A cc nL own rm ret) {dflt lo hi : Int} {offs : Array Int} {len : Nat} {a off : Int} {tgt : Nat} (d : decode cc pc = .ok (.tableswitch dflt lo hi offs, len)) (ha : zR a) (h1 : lo ≤ a) (h2 : a ≤ hi) (ho : offs[(a - lo).toNat]? = some off) (ht : (pc : Int) + off = (tgt : Int)) (kk : VV X G A h0 nL Q h k n (tgt) lv (st)) : VV X G A h0 nL Q h k n (pc) lv (.inl a :: st) := by
  intro H locs ls hR hS hf hL
  have q := kk H locs ls hR hS hf hL
  refine lv_tableIn hO.x hO.b d (by rw [zi_toInt ha]; omega) (by rw [zi_toInt ha]; omega) (by rw [zi_toInt ha]; exact ho) ht q
theorem v_tableOut (hO : OKX X G A cc nL own rm ret) {dflt lo hi : Int} {offs : Array Int} {len : Nat} {a : Int} {tgt : Nat} (d : decode cc pc = .ok (.tableswitch dflt lo hi offs, len)) (ha : zR a) (h1 : a < lo ∨ hi < a) (ht : (pc : Int) + dflt = (tgt : Int)) (kk : VV X G A h0 nL Q h k n (tgt) lv (st)) : VV X G A h0 nL Q h k n (pc) lv (.inl a :: st) := by
  intro H locs ls hR hS hf hL
  have q := kk H locs ls hR hS hf hL
  refine lv_tableOut hO.x hO.b d (by rw [zi_toInt ha]; exact h1) ht q
theorem v_lookup (hO : OKX X G A cc nL own rm ret) {dflt : Int} {ps : Array (Int × Int)} {len : Nat} {a off : Int} {tgt : Nat} (d : decode cc pc = .ok (.lookupswitch dflt ps, len)) (ha : zR a) (hp : (ps.toList.zip (ps.toList.drop 1)).all (fun (a, next) => a.1 < next.1) = true) (ho : Op.lookupswitch.offset ps.toList dflt a = off) (ht : (pc : Int) + off = (tgt : Int)) (kk : VV X G A h0 nL Q h k n (tgt) lv (st)) : VV X G A h0 nL Q h k n (pc) lv (.inl a :: st) := by
  intro H locs ls hR hS hf hL
  have q := kk H locs ls hR hS hf hL
  refine lv_lookup hO.x hO.b d hp (by rw [zi_toInt ha]; exact ho) ht q
theorem v_i2d (hO : OKX X G A cc nL own rm ret) {a : Int} (d : decode cc pc = .ok (.i2d, 1)) (kk : VV X G A h0 nL Q h k n (pc + 1) lv (.inr (.double (FP.i2d (zi a))) :: st)) : VV X G A h0 nL Q h k n (pc) lv (.inl a :: st) := by
  intro H locs ls hR hS hf hL
  have q := kk H locs ls hR hS hf hL
  exact lv_i2d hO.x hO.b d q
theorem v_i2f (hO : OKX X G A cc nL own rm ret) {a : Int} (d : decode cc pc = .ok (.i2f, 1)) (kk : VV X G A h0 nL Q h k n (pc + 1) lv (.inr (.float (FP.i2f (zi a))) :: st)) : VV X G A h0 nL Q h k n (pc) lv (.inl a :: st) := by
  intro H locs ls hR hS hf hL
  have q := kk H locs ls hR hS hf hL
  exact lv_i2f hO.x hO.b d q
theorem v_ddiv (hO : OKX X G A cc nL own rm ret) {a b : UInt64} (d : decode cc pc = .ok (.ddiv, 1)) (hne : vf_n64 (FP.ddiv a b)) (kk : VV X G A h0 nL Q h k n (pc + 1) lv (.inr (.double (FP.ddiv a b)) :: st)) : VV X G A h0 nL Q h k n (pc) lv (.inr (.double b) :: .inr (.double a) :: st) := by
  intro H locs ls hR hS hf hL
  have q := kk H locs ls hR hS hf hL
  exact lv_ddiv hO.x hO.b d hne q
theorem v_fdiv (hO : OKX X G A cc nL own rm ret) {a b : UInt32} (d : decode cc pc = .ok (.fdiv, 1)) (hne : vf_n32 (FP.fdiv a b)) (kk : VV X G A h0 nL Q h k n (pc + 1) lv (.inr (.float (FP.fdiv a b)) :: st)) : VV X G A h0 nL Q h k n (pc) lv (.inr (.float b) :: .inr (.float a) :: st) := by
  intro H locs ls hR hS hf hL
  have q := kk H locs ls hR hS hf hL
  exact lv_fdiv hO.x hO.b d hne q
theorem v_f2d (hO : OKX X G A cc nL own rm ret) {a : UInt32} (d : decode cc pc = .ok (.f2d, 1)) (hne : vf_n64 (FP.f2d a)) (kk : VV X G A h0 nL Q h k n (pc + 1) lv (.inr (.double (FP.f2d a)) :: st)) : VV X G A h0 nL Q h k n (pc) lv (.inr (.float a) :: st) := by
  intro H locs ls hR hS hf hL
  have q := kk H locs ls hR hS hf hL
  exact lv_f2d hO.x hO.b d hne q
theorem v_dcmp (hO : OKX X G A cc nL own rm ret) {a b : UInt64} {op : CmpOp} {z : Int} (d : decode cc pc = .ok (.dcmp op, 1)) (hv : Op.cmpValue (FP.dcmp a b) op = zi z) (kk : VV X G A h0 nL Q h k n (pc + 1) lv (.inl z :: st)) : VV X G A h0 nL Q h k n (pc) lv (.inr (.double b) :: .inr (.double a) :: st) := by
  intro H locs ls hR hS hf hL
  have q := kk H locs ls hR hS hf hL
  refine lv_dcmp hO.x hO.b d ?_; rw [hv]; exact q
theorem v_widen {k2 n2 : Nat} (h1 : k ≤ k2) (h2 : n ≤ n2) (kk : VV X G A h0 nL Q h k2 n2 (pc) lv (st)) : VV X G A h0 nL Q h k n (pc) lv (st) := fun H locs ls hR hS hf hL => W.widen h1 h2 (kk H locs ls hR hS hf hL)
theorem v_forget {lv' : List (Nat × SV)} (hs : ∀ q ∈ lv', q ∈ lv) (kk : VV X G A h0 nL Q h k n (pc) lv' (st)) : VV X G A h0 nL Q h k n (pc) lv (st) := fun H locs ls hR hS hf hL => kk H locs ls hR hS hf (lv_of_sub hL (fun q hq => by
  obtain ⟨r, hr, rfl⟩ := List.mem_map.mp hq
  exact List.mem_map.mpr ⟨r, hs r hr, rfl⟩))
theorem v_hsub {h' : AH} (hs : ∀ a e, h' a = some e → h a = some e) (hs2 : ∀ a, ¬ A a → h' a = h a) (kk : VV X G A h0 nL Q h' k n (pc) lv (st)) : VV X G A h0 nL Q h k n (pc) lv (st) := fun H locs ls hR hS hf hL => kk H locs ls (hR.sub hs) hS (fun a ha => (hs2 a ha).trans (hf a ha)) hL
theorem v_eq {pc2 : Nat} {lv2 : List (Nat × SV)} {st2 : List SV} (e1 : pc = pc2) (e2 : lv = lv2) (e3 : st = st2) (kk : VV X G A h0 nL Q h k n (pc2) lv2 (st2)) : VV X G A h0 nL Q h k n (pc) lv (st) := by
  subst e1; subst e2; subst e3; exact kk
end VRows
