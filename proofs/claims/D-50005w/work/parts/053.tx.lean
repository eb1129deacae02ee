/-! the facts that ride, for fewer cells that may change; the two cells of a constant text -/
theorem hCst.narrow {D : HD} {A B : Nat → Prop} {U : State} {H : Heap} (h : hCst D A U H) (hAB : ∀ q, B q → A q) : hCst D B U H :=
  ⟨h.1.narrow hAB, h.2.1.narrow hAB, h.2.2.1.narrow hAB, h.2.2.2.1, h.2.2.2.2.1.narrow hAB, h.2.2.2.2.2.narrow hAB⟩
theorem hG.narrow {D : HD} {A B : Nat → Prop} {U : State} {H : Heap} (h : hG D A U H) (hAB : ∀ q, B q → A q) : hG D B U H :=
  ⟨h.K, fun w hw hk => h.nw hw hk, fun t ht => h.fw t ht, ⟨h.ao, h.ap⟩, ⟨h.cs.narrow hAB, h.kst.narrow hAB⟩, h.row, h.ai, h.mi, h.dc, ⟨h.un.narrow hAB, h.su.narrow hAB⟩, h.nc, h.lam⟩
/-- a heap that shows a text's two cells alone, nothing to be written -/
def txH (a v : Nat) (fs : List Value) (n : Nat) (b : Nat → Int32) (sz : Nat) : Hp := (fun q => if q = a then some (.inr (13, fs)) else if q = v then some (.inl (1, n, .inl b)) else none, (sz, (sz, (0, 0))))
theorem txH_R {D : HD} {a v n : Nat} {fs : List Value} {b : Nat → Int32} {H : Heap} (ha : cAt D a (.inr (13, fs)) H) (hv : cAt D v (.inl (1, n, .inl b)) H) : hR D (fun q => H.size ≤ q) (txH a v fs n b H.size) H := by
  refine ⟨rfl, fun q e he => ?_, fun q e _ hl => hl, fun q hq => hq⟩
  have he : (if q = a then some (.inr (13, fs)) else if q = v then some (.inl (1, n, .inl b)) else none) = some e := he
  by_cases h1 : q = a
  · subst h1
    rw [if_pos rfl] at he
    cases he
    exact ha
  · rw [if_neg h1] at he
    by_cases h2 : q = v
    · subst h2
      rw [if_pos rfl] at he
      cases he
      exact hv
    · rw [if_neg h2] at he
      cases he
/-! the combinators forwards: what a pure function answers where the cells are known -/
theorem gI_e {β : Type} {h : Hp} {a ci k : Nat} {K : Int32 → Option β} {fs : List Value} {x : Int32} (e : h.1 a = some (.inr (ci, fs))) (f : fs[k]? = some (.int x)) : gI h a ci k K = K x := by
  unfold gI; rw [e]; simp [f]
theorem gQ_e {β : Type} {h : Hp} {a ci k : Nat} {K : Nat → Option β} {fs : List Value} {x : Nat} (e : h.1 a = some (.inr (ci, fs))) (f : fs[k]? = some (.ref x)) : gQ h a ci k K = K x := by
  unfold gQ; rw [e]; simp [f]
theorem gC_e {β : Type} {h : Hp} {a ci : Nat} {K : Option β} {fs : List Value} (e : h.1 a = some (.inr (ci, fs))) : gC h a ci K = K := by
  unfold gC; rw [e]; simp
theorem aL_e {β : Type} {h : Hp} {a k' : Nat} {K : Int32 → Option β} {x : vp_A} (e : h.1 a = some (.inl (k', x))) (hk : k' < 6) : aL h a K = K (Int32.ofNat x.1) := by
  unfold aL; rw [e]; simp [hk]
theorem aI_e {β : Type} {h : Hp} {a kd n : Nat} {i : Int32} {K : Int32 → Option β} {f : Nat → Int32} (e : h.1 a = some (.inl (kd, n, .inl f))) (hi : inB i n = true) : aI h a kd i K = K (f i.toNatClampNeg) := by
  unfold aI; rw [e]; simp [hi, gd]
theorem gd_e {α : Type} {b : Bool} {x : Option α} (h : b = true) : gd b x = x := by subst h; rfl
theorem bnd_e {α β γ : Type} {x : Option (α × β)} {f : α → β → Option γ} {a : α} {b : β} (h : x = some (a, b)) : bnd x f = f a b := by subst h; rfl
theorem txH_a {a v n sz : Nat} {fs : List Value} {b : Nat → Int32} : (txH a v fs n b sz).1 a = some (.inr (13, fs)) := by simp [txH]
theorem txH_v {a v n sz : Nat} {fs : List Value} {b : Nat → Int32} (hav : a ≠ v) : (txH a v fs n b sz).1 v = some (.inl (1, n, .inl b)) := by simp [txH, Ne.symm hav]
theorem sh_0 {x : Int32} : x >>> ((0 : Int32) &&& 31) = x := by
  rw [show ((0 : Int32) &&& 31) = 0 by decide]
  exact Int32.shiftRight_zero
theorem tx_length {a v n sz : Nat} {fs : List Value} {b : Nat → Int32} (hav : a ≠ v) : GJ9_length (txH a v (.ref v :: .int 0 :: fs) n b sz) a = some (Int32.ofNat n, txH a v (.ref v :: .int 0 :: fs) n b sz) := by
  unfold GJ9_length GJ9_coder
  rw [gQ_e txH_a rfl, aL_e (txH_v hav) (by decide), gC_e txH_a, if_neg (by decide), gI_e txH_a rfl, gd_e (by decide), bnd_e rfl, sh_0]
theorem ch_tab : ∀ c, c < 128 → ((((Int32.ofNat c) &&& 255)).toUInt32 % 65536).toInt32 = Int32.ofNat c ∧ chB (Int32.ofNat c) = true := by decide +kernel
theorem ix_ok {i n : Nat} (hi : i < n) (hn : n < 2 ^ 31) : ¬ Int32.ofNat i < 0 ∧ Int32.ofNat i < Int32.ofNat n ∧ (Int32.ofNat i).toNatClampNeg = i ∧ inB (Int32.ofNat i) n = true := by
  have e1 : (Int32.ofNat i).toInt = i := Int32.toInt_ofNat_of_lt (by omega)
  have e2 : (Int32.ofNat n).toInt = n := Int32.toInt_ofNat_of_lt (by omega)
  have a1 : ¬ Int32.ofNat i < 0 := by
    rw [Int32.lt_iff_toInt_lt, e1]
    show ¬ (i : Int) < 0
    omega
  have a3 : (Int32.ofNat i).toNatClampNeg = i := by
    unfold Int32.toNatClampNeg
    rw [e1]
    rfl
  refine ⟨a1, by rw [Int32.lt_iff_toInt_lt, e1, e2]; omega, a3, ?_⟩
  unfold inB
  rw [a3]
  simp [a1]
  omega
theorem tx_charAt {a v n sz i : Nat} {fs : List Value} {b : Nat → Int32} {c : Nat} (hav : a ≠ v) (hi : i < n) (hn : n < 2 ^ 31) (hb : b i = Int32.ofNat c) (hc : c < 128) : GJ9_charAt (txH a v (.ref v :: .int 0 :: fs) n b sz) a (Int32.ofNat i) = some (Int32.ofNat c, txH a v (.ref v :: .int 0 :: fs) n b sz) := by
  obtain ⟨a1, a2, a3, a4⟩ := ix_ok hi hn
  obtain ⟨t1, t2⟩ := ch_tab c hc
  have h15 : GJ15_charAt (txH a v (.ref v :: .int 0 :: fs) n b sz) v (Int32.ofNat i) = some (Int32.ofNat c, txH a v (.ref v :: .int 0 :: fs) n b sz) := by
    unfold GJ15_charAt GJ9_checkIndex GJ14_checkIndexS
    rw [aL_e (txH_v hav) (by decide), if_neg a1, if_pos a2, bnd_e rfl, bnd_e rfl, aI_e (txH_v hav) a4, a3, hb, t1, gd_e t2]
  unfold GJ9_charAt GJ9_isLatin1
  rw [gC_e txH_a, if_neg (by decide), gI_e txH_a rfl, if_pos rfl, bnd_e rfl, if_neg (by decide), gQ_e txH_a rfl, bnd_e h15, gd_e t2]
