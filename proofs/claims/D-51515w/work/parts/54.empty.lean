/-! AN EMPTY MARKET LAID -/
theorem w_nO' {k n : Nat} {b : Hp} {Q : Nat → Hp → Prop} (h : ∀ c, E0 b c → hSz c = hSz b + 1 → hSl c = hSl b + n → hK c (hSz b) = k → hI c (hSz b) = (fun _ => nv 0) → hR c (hSz b) = (fun _ => none) → Q (hSz b) c) : Wp (nO k n) b Q := by
  rw [w_nO]
  refine h _ ((E0.rf b).new _ _ _ _ _) rfl rfl ?_ ?_ ?_
  · rw [hK_new, up1_s]
  · rw [hI_new, up1_s]; rfl
  · rw [hR_new, up1_s]
theorem w_nA' {k n : Nat} (hn : n ≤ 1000) {b : Hp} {Q : Nat → Hp → Prop} (h : ∀ c, E0 b c → hSz c = hSz b + 1 → hSl c = hSl b + n → hK c (hSz b) = k → hN c (hSz b) = n → hI c (hSz b) = (fun _ => nv 0) → hR c (hSz b) = (fun _ => none) → Q (hSz b) c) : Wp (nA k (nv n)) b Q := by
  have e : (nv n).toNatClampNeg = n := nv_cl (by omega)
  rw [w_nA, e]
  refine ⟨⟨?_, by omega⟩, h _ ((E0.rf b).new _ _ _ _ _) rfl rfl ?_ ?_ ?_ ?_⟩
  · rw [show (0 : Int32) = nv 0 from rfl, nv_lt (by omega) (by omega)]; omega
  · rw [hK_new, up1_s]
  · rw [hN_new, up1_s]
  · rw [hI_new, up1_s]; rfl
  · rw [hR_new, up1_s]
theorem w_n2' {ko ki n m : Nat} (hn : n ≤ 100) (hm : m ≤ 100) {b : Hp} {Q : Nat → Hp → Prop} (h : ∀ c, E0 b c → hSz c = hSz b + 1 + n → hSl c = hSl b + n + n * m → hK c (hSz b) = ko → hN c (hSz b) = n → (∀ x, x < n → hR c (hSz b) x = some (hSz b + 1 + x) ∧ hK c (hSz b + 1 + x) = ki ∧ hN c (hSz b + 1 + x) = m ∧ hI c (hSz b + 1 + x) = (fun _ => nv 0) ∧ hR c (hSz b + 1 + x) = (fun _ => none)) → Q (hSz b) c) : Wp (n2 ko ki (nv n) (nv m)) b Q := by
  have e : (nv n).toNatClampNeg = n := nv_cl (by omega)
  have e2 : (nv m).toNatClampNeg = m := nv_cl (by omega)
  rw [w_n2, e, e2]
  have z : ∀ k, k ≤ 100 → ¬ nv k < 0 := fun k hk => by rw [show (0 : Int32) = nv 0 from rfl, nv_lt (by omega) (by omega)]; omega
  refine ⟨⟨z n hn, by omega, z m hm, by omega⟩, h _ (((E0.rf b).new _ _ _ _ _).rows _ _ _) ?_ ?_ ?_ ?_ ?_⟩
  · rw [hRows_sz]; rfl
  · rw [hRows_sl]; rfl
  · rw [(hRows_out ki m n _ (hSz b) (.inl (by rw [hSz_new]; omega))).1, hK_new, up1_s]
  · rw [(hRows_out ki m n _ (hSz b) (.inl (by rw [hSz_new]; omega))).2.1, hN_new, up1_s]
  · intro x hx
    have i := hRows_in ki m n (hNew b ko n n (fun _ => 0) (fun j => if j < n then some (hSz b + 1 + j) else none)) x hx
    rw [hSz_new] at i
    refine ⟨?_, i.1, i.2.1, i.2.2.1, i.2.2.2.1⟩
    rw [(hRows_out ki m n _ (hSz b) (.inl (by rw [hSz_new]; omega))).2.2.2.1, hR_new, up1_s, if_pos hx]
theorem w_sh {n : Nat} (hn : n ≤ 100) {b : Hp} {α : Type} {f : Nat → Mr α} {Q : α → Hp → Prop} (h : ∀ c, E0 b c → hSz c = hSz b + 2 → hSl c = hSl b + 2 + n → hK c (hSz b) = 3 → hR c (hSz b) 0 = some (hSz b + 1) → hI c (hSz b) 1 = nv 0 → hK c (hSz b + 1) = 46 → hN c (hSz b + 1) = n → Wp (f (hSz b)) c Q) : Wp (bd (nO 3 2) fun q1 => bd (X3_init q1 (nv n)) fun _ => f q1) b Q := by
  rw [w_bd]
  refine w_nO' fun c1 e1 z1 l1 k1 i1 r1 => ?_
  rw [w_bd, X3_init, w_bd]
  refine w_nA' (by omega) fun c2 e2 z2 l2 k2 n2 i2 r2 => ?_
  have old := e2.2.2 (hSz b) (by omega)
  have kq : hK c2 (hSz b) = 3 := by rw [old.1]; exact k1
  rw [w_bd, w_pR]
  refine ⟨kq, ?_⟩
  rw [w_rt]
  refine h _ ((e1.tr e2).wR (Nat.le_refl _) _) ?_ ?_ kq ?_ ?_ ?_ ?_
  · show hSz c2 = _; omega
  · show hSl c2 = _; omega
  · rw [hR_wR, up1_s, up1_s, z1]
  · show hI c2 (hSz b) 1 = _
    rw [old.2.2.2.1, i1]
  · show hK c2 _ = _
    rw [← z1]; exact k2
  · show hN c2 _ = _
    rw [← z1]; exact n2
