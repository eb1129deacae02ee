/-! the component and what it calls of the library, walked by program (tool/dc.py): G.. the pure function, mo.. its growth, mg.. the contract -/
def GX3_table_1 (R : Nat → Hp → Nat → Int32 → Int32 → Nat → Nat → Int32 → Int32 → Option (Nat × Hp)) (n : Nat) (h : Hp) (b0 : Nat) (x1 : Int32) (x2 : Int32) (b3 : Nat) (b4 : Nat) (x5 : Int32) (x6 : Int32) : Option (Nat × Hp) := if x1 ≤ x5 then some (b4, h) else R 2 h b0 x1 x2 b3 b4 x5 (0 : Int32)
def GX3_table_2 (R : Nat → Hp → Nat → Int32 → Int32 → Nat → Nat → Int32 → Int32 → Option (Nat × Hp)) (n : Nat) (h : Hp) (b0 : Nat) (x1 : Int32) (x2 : Int32) (b3 : Nat) (b4 : Nat) (x5 : Int32) (x6 : Int32) : Option (Nat × Hp) := if x2 ≤ x6 then R 1 h b0 x1 x2 b3 b4 (x5 + 1) x6 else aQ h b4 4 x5 (fun x4_ => bnd (GLam n h b3 x5 x6) (fun r5 u5 => sI u5 x4_ 0 x6 r5 (fun h6 => R 2 h6 b0 x1 x2 b3 b4 x5 (x6 + 1))))
def GX3_table_r : Nat → Nat → Hp → Nat → Int32 → Int32 → Nat → Nat → Int32 → Int32 → Option (Nat × Hp)
  | 0 => fun _ _ _ _ _ _ _ _ _ => none
  | n + 1 => fun k => match k with | 1 => GX3_table_1 (GX3_table_r n) n | _ => GX3_table_2 (GX3_table_r n) n
def GX3_table_0 (R : Nat → Hp → Nat → Int32 → Int32 → Nat → Nat → Int32 → Int32 → Option (Nat × Hp)) (n : Nat) (h : Hp) (a0 : Nat) (p1 : Int32) (p2 : Int32) (a3 : Nat) : Option (Nat × Hp) := nM h p1 p2 (fun a1_ h1 => R 1 h1 a0 p1 p2 a3 a1_ (0 : Int32) 0)
def GX3_table (n : Nat) (h : Hp) (a0 : Nat) (p1 : Int32) (p2 : Int32) (a3 : Nat) : Option (Nat × Hp) := GX3_table_0 (GX3_table_r n) n h a0 p1 p2 a3
theorem moX3_table_r (n : Nat) : (∀ (h : Hp) (b0 : Nat) (x1 : Int32) (x2 : Int32) (b3 : Nat) (b4 : Nat) (x5 : Int32) (x6 : Int32), Mo h (GX3_table_r n 1 h b0 x1 x2 b3 b4 x5 x6)) ∧ (∀ (h : Hp) (b0 : Nat) (x1 : Int32) (x2 : Int32) (b3 : Nat) (b4 : Nat) (x5 : Int32) (x6 : Int32), Mo h (GX3_table_r n 2 h b0 x1 x2 b3 b4 x5 x6)) := by
  induction n with
  | zero => exact ⟨(fun _ _ _ _ _ _ _ _ => mo_no), (fun _ _ _ _ _ _ _ _ => mo_no)⟩
  | succ n ih =>
    obtain ⟨ml1, ml2⟩ := ih
    exact ⟨(fun h b0 x1 x2 b3 b4 x5 x6 => show Mo h (GX3_table_1 (GX3_table_r n) n h b0 x1 x2 b3 b4 x5 x6) from by unfold GX3_table_1; exact mo_ite (mo_ret hle_rf) (mo_tr hle_rf (ml2 h b0 x1 x2 b3 b4 x5 (0 : Int32)))),
      (fun h b0 x1 x2 b3 b4 x5 x6 => show Mo h (GX3_table_2 (GX3_table_r n) n h b0 x1 x2 b3 b4 x5 x6) from by unfold GX3_table_2; exact mo_ite (mo_tr hle_rf (ml1 h b0 x1 x2 b3 b4 (x5 + 1) x6)) (mo_aQ (fun x4_ => mo_bnd (moLam n h b3 x5 x6) hle_rf (fun r5 u5 m5 => mo_sI m5 (fun h6 m6 => mo_tr m6 (ml2 h6 b0 x1 x2 b3 b4 x5 (x6 + 1)))))))⟩
theorem moX3_table (n : Nat) (h : Hp) (a0 : Nat) (p1 : Int32) (p2 : Int32) (a3 : Nat) : Mo h (GX3_table n h a0 p1 p2 a3) := by
  obtain ⟨ml1, ml2⟩ := moX3_table_r n
  unfold GX3_table GX3_table_0
  exact mo_nM hle_rf (fun a1_ h1 m1 => mo_tr m1 (ml1 h1 a0 p1 p2 a3 a1_ (0 : Int32) 0))
set_option maxHeartbeats 4000000 in
set_option maxRecDepth 100000 in
theorem mgX3_table (l : Launch) (D : HD) (A : Nat → Prop) (h : Hp) (n : Nat) (a0 : Nat) (p1 : Int32) (p2 : Int32) (a3 : Nat) (out : Nat × Hp) (hF : GX3_table n h a0 p1 p2 a3 = some out) (mc ms : Nat) (hmc : hCc out.2 = hCc h + mc) (hms : hSl out.2 = hSl h + ms) : Met l yX3_table (ws_ yX3_table cX3_table 7 (some (.array (.array .int)))) ({ frames := 7, cells := mc, slots := ms, locals := 153 }) (va_Pc [.ref a0, .int p1, .int p2, .ref a3] (hW D A h)) (va_Qr (fun _ : Hp => True) (fun u r t => (r, u) = out ∧ hW D A u t) A) mc ms A := by
  refine Met.ofW (cc := cX3_table) (maxL := 7) (ret := (some (.array (.array .int)))) (by decide +kernel) rfl ?_
  intro p e s m args below meth c s₁ B hml hv
  obtain ⟨rfl, hr, hGr⟩ := hv
  have hx := B.exec
  have hb := B.bytes
  have hret := B.returns
  have hts := atoms_spec (ws := (ws_ yX3_table cX3_table 7 (some (.array (.array .int))))) B.pre
  have hts : ∀ w ∈ lw_all, w.before _ s = true := fun w h => hts w (List.mem_cons_of_mem _ h)
  have hown : s.vm.findClass RX3 = some m.cls := findClass_of_methodNamed B.named
  have hlocks := B.notSynchronized
  have hS : va_S A s.heap s.heap [] := va_S.rf
  have hc : cst h 0 0 h := cst_0
  have hl := lv_entry ([.ref a0, .int p1, .int p2, .ref a3]) (n := 7) (Nat.le_of_ble_eq_true rfl)
  rw [lg_entry_eq]
  generalize (lg_sl ([.ref a0, .int p1, .int p2, .ref a3]) ++ List.replicate (7 - (lg_sl ([.ref a0, .int p1, .int p2, .ref a3])).length) Slot.unset).toArray = ls at hl ⊢
  have hl : lv_has ls 7 [(0, .ref a0), (1, .int p1), (2, .int p2), (3, .ref a3)] := hl
  obtain ⟨h0, eh0⟩ : ∃ z, z = h := ⟨_, rfl⟩
  rw [← eh0] at hmc hms
  have loop : ∀ n : Nat, (∀ (h : Hp) (b0 : Nat) (x1 : Int32) (x2 : Int32) (b3 : Nat) (b4 : Nat) (x5 : Int32) (x6 : Int32), GX3_table_r n 1 h b0 x1 x2 b3 b4 x5 x6 = some out → ∀ (H : Heap) (locs : List Loc) (cells slots : Nat), cst h0 cells slots h → hR D A h H → va_S A s.heap H locs → ∀ ls : Array Slot, lv_has ls 7 [(0, .ref b0), (1, .int x1), (2, .int x2), (3, .ref b3), (4, .ref b4), (5, .int x5)] → W p l e (headSpec (ws_ yX3_table cX3_table 7 (some (.array (.array .int)))) ({ frames := 7, cells := mc, slots := ms, locals := 153 })).room s m ([.ref a0, .int p1, .int p2, .ref a3] : List Value).toArray below meth c H locs cells slots (MQ below (va_Qr (fun _ : Hp => True) (fun u r t => (r, u) = out ∧ hW D A u t) A) ([.ref a0, .int p1, .int p2, .ref a3] : List Value).toArray s mc ms A) (F0 m 11 ls [])) ∧ (∀ (h : Hp) (b0 : Nat) (x1 : Int32) (x2 : Int32) (b3 : Nat) (b4 : Nat) (x5 : Int32) (x6 : Int32), GX3_table_r n 2 h b0 x1 x2 b3 b4 x5 x6 = some out → ∀ (H : Heap) (locs : List Loc) (cells slots : Nat), cst h0 cells slots h → hR D A h H → va_S A s.heap H locs → ∀ ls : Array Slot, lv_has ls 7 [(0, .ref b0), (1, .int x1), (2, .int x2), (3, .ref b3), (4, .ref b4), (5, .int x5), (6, .int x6)] → W p l e (headSpec (ws_ yX3_table cX3_table 7 (some (.array (.array .int)))) ({ frames := 7, cells := mc, slots := ms, locals := 153 })).room s m ([.ref a0, .int p1, .int p2, .ref a3] : List Value).toArray below meth c H locs cells slots (MQ below (va_Qr (fun _ : Hp => True) (fun u r t => (r, u) = out ∧ hW D A u t) A) ([.ref a0, .int p1, .int p2, .ref a3] : List Value).toArray s mc ms A) (F0 m 20 ls [])) := by
    intro n
    induction n with
    | zero => exact ⟨(fun _ _ _ _ _ _ _ _ h => nomatch h), (fun _ _ _ _ _ _ _ _ h => nomatch h)⟩
    | succ n ih =>
      obtain ⟨lp1, lp2⟩ := ih
      obtain ⟨ml1, ml2⟩ := moX3_table_r n
      refine ⟨?_, ?_⟩
      · intro h b0 x1 x2 b3 b4 x5 x6 hF H locs cells slots hc hr hS ls hl
        replace hF : GX3_table_1 (GX3_table_r n) n h b0 x1 x2 b3 b4 x5 x6 = some out := hF
        unfold GX3_table_1 at hF
        refine lv_iload hx hb dX3_table_11 (lv_at hl 5 rfl) ?_
        refine lv_iload_n hx hb dX3_table_13 rfl (lv_at hl 1 rfl) ?_
        refine lv_icmp_ge (tgt := 56) hx hb dX3_table_14 (by decide) (fun c2 => ?_) (fun c2 => ?_)
        · replace hF := it_t c2 hF
          refine lv_aload hx hb dX3_table_56 (lv_at hl 4 rfl) ?_
          have bz := bud_r hc hF hmc hms
          refine W.widen (k := mc) (n := ms) bz.1 bz.2 ?_
          exact W.aret (v := .ref b4) hx hb hret (Or.inr ⟨_, rfl⟩) (Or.inr ⟨_, rfl⟩) (fun t ht hWm => ⟨⟨h, b4, rfl, trivial, Option.some.inj hF, h_end hGr hr hS ht hWm⟩, hS.F ht⟩) hS.2.2 dX3_table_58
        · replace hF := it_f c2 hF
          refine lv_iconst (v := 0) hx hb dX3_table_17 (by decide) ?_
          refine lv_istore (lv' := [(6, .int 0), (0, .ref b0), (1, .int x1), (2, .int x2), (3, .ref b3), (4, .ref b4), (5, .int x5)]) hx hb dX3_table_18 hl (by decide) rfl (fun ls hl => ?_)
          exact lp2 h b0 x1 x2 b3 b4 x5 (0 : Int32) hF _ _ _ _ hc hr hS ls (lv_sub hl [1, 2, 3, 4, 5, 6, 0] rfl)
      · intro h b0 x1 x2 b3 b4 x5 x6 hF H locs cells slots hc hr hS ls hl
        replace hF : GX3_table_2 (GX3_table_r n) n h b0 x1 x2 b3 b4 x5 x6 = some out := hF
        unfold GX3_table_2 at hF
        refine lv_iload hx hb dX3_table_20 (lv_at hl 6 rfl) ?_
        refine lv_iload_n hx hb dX3_table_22 rfl (lv_at hl 2 rfl) ?_
        refine lv_icmp_ge (tgt := 50) hx hb dX3_table_23 (by decide) (fun c3 => ?_) (fun c3 => ?_)
        · replace hF := it_t c3 hF
          refine lv_iinc (v := (x5 + 1)) (lv' := [(5, .int (x5 + 1)), (0, .ref b0), (1, .int x1), (2, .int x2), (3, .ref b3), (4, .ref b4), (6, .int x6)]) hx hb dX3_table_50 hl (k := 5) rfl rfl (by decide) rfl (fun ls hl => ?_)
          refine lv_goto (tgt := 11) hx hb dX3_table_53 (by decide) ?_
          exact lp1 h b0 x1 x2 b3 b4 (x5 + 1) x6 hF _ _ _ _ hc hr hS ls (lv_sub hl [1, 2, 3, 4, 5, 0] rfl)
        · replace hF := it_f c3 hF
          refine lv_aload hx hb dX3_table_26 (lv_at hl 4 rfl) ?_
          refine lv_iload hx hb dX3_table_28 (lv_at hl 5 rfl) ?_
          obtain ⟨n4, f4, x4_, e4, g4, ex4, hF⟩ := aQ_s hF
          refine h_aald hx hb hGr hr (by decide) e4 g4 dX3_table_30 (v := .ref x4_) (by rw [ex4]; rfl) ?_
          refine lv_iload hx hb dX3_table_31 (lv_at hl 6 rfl) ?_
          refine lv_aload_n hx hb dX3_table_33 rfl (lv_at hl 3 rfl) ?_
          refine lv_iload hx hb dX3_table_34 (lv_at hl 5 rfl) ?_
          refine lv_iload hx hb dX3_table_36 (lv_at hl 6 rfl) ?_
          obtain ⟨r5, u5, e5, hF⟩ := bnd_s hF
          have mm5 : hle u5 out.2 := (show Mo u5 _ from mo_sI hle_rf (fun h6 m6 => mo_tr m6 (ml2 h6 b0 x1 x2 b3 b4 x5 (x6 + 1)))) _ hF
          obtain ⟨mc5, ms5, hmc5, hms5⟩ := up_of (moLam n h b3 x5 x6 _ e5)
          replace hc := cst_call hc hmc5 hms5
          refine h_callFi (h_lamAt (rest := [.int x6, .ref x4_]) ⟨hx, hb, hml, hown, hts⟩ hGr hr hS e5 hmc5 hms5 rfl hl.1 rfl (lv_room (Nat.le_of_ble_eq_true rfl)) dX3_table_38 (Nat.le_of_ble_eq_true rfl) (Nat.le_of_ble_eq_true rfl) ⟨(bud hc mm5 hmc hms).1, (bud hc mm5 hmc hms).2⟩) hS (fun rr uu H locs hw hr hS => ?_)
          obtain rfl : u5 = uu := (congrArg Prod.snd hw).symm
          obtain rfl : r5 = rr := (congrArg Prod.fst hw).symm
          obtain ⟨n6, f6, e6, lo6, g6, hF⟩ := sI_s hF
          obtain ⟨h6, eh6⟩ : ∃ z, z = hPut u5 x4_ (.inl (0, n6, .inl (upd f6 (x6).toNatClampNeg r5))) := ⟨_, rfl⟩
          rw [← eh6] at hF
          refine h_iast hx hb hGr hr hS 0 rfl e6 (x := r5) g6 lo6 dX3_table_43 (fun H locs hr hS => ?_)
          rw [← eh6] at hr
          replace hc := cst_put hc eh6
          refine lv_iinc (v := (x6 + 1)) (lv' := [(6, .int (x6 + 1)), (0, .ref b0), (1, .int x1), (2, .int x2), (3, .ref b3), (4, .ref b4), (5, .int x5)]) hx hb dX3_table_44 hl (k := 6) rfl rfl (by decide) rfl (fun ls hl => ?_)
          refine lv_goto (tgt := 20) hx hb dX3_table_47 (by decide) ?_
          exact lp2 h6 b0 x1 x2 b3 b4 x5 (x6 + 1) hF _ _ _ _ hc hr hS ls (lv_sub hl [1, 2, 3, 4, 5, 6, 0] rfl)
  obtain ⟨lp1, lp2⟩ := loop n
  obtain ⟨ml1, ml2⟩ := moX3_table_r n
  have hc : cst h0 0 0 h := by rw [eh0]; exact cst_0
  unfold GX3_table GX3_table_0 at hF
  refine lv_iload_n hx hb dX3_table_0 rfl (lv_at hl 1 rfl) ?_
  refine lv_iload_n hx hb dX3_table_1 rfl (lv_at hl 2 rfl) ?_
  obtain ⟨a1_, h1, ea1, eh1, g1, gk1, hF⟩ := nM_s hF
  have mm1 : hle h1 out.2 := (show Mo h1 _ from mo_tr hle_rf (ml1 h1 a0 p1 p2 a3 a1_ (0 : Int32) 0)) _ hF
  replace hc := cst_mul hc eh1
  refine h_multi hx hb hown (hts _ q1149) (hts _ q177) hGr hr hS g1 gk1 (bud_m hc mm1 hmc hms).1 (bud_m hc mm1 hmc hms).2 dX3_table_2 (fun H hr hS => ?_)
  rw [← eh1] at hr
  rw [← ea1]
  refine lv_astore (lv' := [(4, .ref a1_), (0, .ref a0), (1, .int p1), (2, .int p2), (3, .ref a3)]) hx hb dX3_table_6 hl (by decide) rfl (fun ls hl => ?_)
  refine lv_iconst (v := 0) hx hb dX3_table_8 (by decide) ?_
  refine lv_istore (lv' := [(5, .int 0), (4, .ref a1_), (0, .ref a0), (1, .int p1), (2, .int p2), (3, .ref a3)]) hx hb dX3_table_9 hl (by decide) rfl (fun ls hl => ?_)
  exact lp1 h1 a0 p1 p2 a3 a1_ (0 : Int32) 0 hF _ _ _ _ hc hr hS ls (lv_sub hl [2, 3, 4, 5, 1, 0] rfl)

def GX2_sets (n : Nat) (h : Hp) (a0 : Nat) (p1 : Int32) (p2 : Int32) (p3 : Int32) : Option (Int32 × Hp) := gQ h a0 2 0 (fun x1_ => gI h a0 2 1 (fun x2_ => gI h a0 2 1 (fun x3_ => nW h 100 [.ref a0, .int p1, .int p2, .int p3] 4 (fun a4_ h4 => gC h4 x1_ 3 (bnd (GX3_table n h4 x1_ x2_ x3_ a4_) (fun r5 u5 => pV u5 a0 2 2 (.ref r5) (fun h6 => some (0, h6))))))))
theorem moX2_sets (n : Nat) (h : Hp) (a0 : Nat) (p1 : Int32) (p2 : Int32) (p3 : Int32) : Mo h (GX2_sets n h a0 p1 p2 p3) := by
  unfold GX2_sets
  exact mo_gQ (fun x1_ => mo_gI (fun x2_ => mo_gI (fun x3_ => mo_nW hle_rf (fun a4_ h4 m4 => mo_gC (mo_bnd (moX3_table n h4 x1_ x2_ x3_ a4_) m4 (fun r5 u5 m5 => mo_pV m5 (fun h6 m6 => mo_ret m6)))))))
set_option maxHeartbeats 4000000 in
set_option maxRecDepth 100000 in
theorem mgX2_sets (l : Launch) (D : HD) (A : Nat → Prop) (h : Hp) (n : Nat) (a0 : Nat) (p1 : Int32) (p2 : Int32) (p3 : Int32) (out : Int32 × Hp) (hF : GX2_sets n h a0 p1 p2 p3 = some out) (mc ms : Nat) (hmc : hCc out.2 = hCc h + mc) (hms : hSl out.2 = hSl h + ms) : Met l yX2_sets (ws_ yX2_sets cX2_sets 4 none) ({ frames := 8, cells := mc, slots := ms, locals := 3100 }) (va_Pc [.ref a0, .int p1, .int p2, .int p3] (hW D A h)) (va_Qv (fun u => (0, u) = out) (hW D A) A) mc ms A := by
  refine Met.ofW (cc := cX2_sets) (maxL := 4) (ret := none) (by decide +kernel) rfl ?_
  intro p e s m args below meth c s₁ B hml hv
  obtain ⟨rfl, hr, hGr⟩ := hv
  have hx := B.exec
  have hb := B.bytes
  have hret := B.returns
  have hts := atoms_spec (ws := (ws_ yX2_sets cX2_sets 4 none)) B.pre
  have hts : ∀ w ∈ lw_all, w.before _ s = true := fun w h => hts w (List.mem_cons_of_mem _ h)
  have hown : s.vm.findClass RX2 = some m.cls := findClass_of_methodNamed B.named
  have hlocks := B.notSynchronized
  have hS : va_S A s.heap s.heap [] := va_S.rf
  have hc : cst h 0 0 h := cst_0
  have hl := lv_entry ([.ref a0, .int p1, .int p2, .int p3]) (n := 4) (Nat.le_of_ble_eq_true rfl)
  rw [lg_entry_eq]
  generalize (lg_sl ([.ref a0, .int p1, .int p2, .int p3]) ++ List.replicate (4 - (lg_sl ([.ref a0, .int p1, .int p2, .int p3])).length) Slot.unset).toArray = ls at hl ⊢
  have hl : lv_has ls 4 [(0, .ref a0), (1, .int p1), (2, .int p2), (3, .int p3)] := hl
  unfold GX2_sets at hF
  refine lv_aload_n hx hb dX2_sets_0 rfl (lv_at hl 0 rfl) ?_
  refine lv_aload_n hx hb dX2_sets_1 rfl (lv_at hl 0 rfl) ?_
  obtain ⟨fs1, x1_, e1, f1, hF⟩ := gQ_s hF
  refine h_get (C := RX2) (T := TX2) (N := 11) hx hb hts in_X2 hown hGr hr e1 (by decide) rfl 0 (by decide) (hts _ q562) (fun _ h9 => h9) f1 dX2_sets_2 ?_
  refine lv_aload_n hx hb dX2_sets_5 rfl (lv_at hl 0 rfl) ?_
  obtain ⟨fs2, x2_, e2, f2, hF⟩ := gI_s hF
  refine h_get (C := RX2) (T := TX2) (N := 11) hx hb hts in_X2 hown hGr hr e2 (by decide) rfl 1 (by decide) (hts _ q565) (fun _ h9 => h9) f2 dX2_sets_6 ?_
  refine lv_aload_n hx hb dX2_sets_9 rfl (lv_at hl 0 rfl) ?_
  obtain ⟨fs3, x3_, e3, f3, hF⟩ := gI_s hF
  refine h_get (C := RX2) (T := TX2) (N := 11) hx hb hts in_X2 hown hGr hr e3 (by decide) rfl 1 (by decide) (hts _ q565) (fun _ h9 => h9) f3 dX2_sets_10 ?_
  refine lv_aload_n hx hb dX2_sets_13 rfl (lv_at hl 0 rfl) ?_
  refine lv_iload_n hx hb dX2_sets_14 rfl (lv_at hl 1 rfl) ?_
  refine lv_iload_n hx hb dX2_sets_15 rfl (lv_at hl 2 rfl) ?_
  refine lv_iload_n hx hb dX2_sets_16 rfl (lv_at hl 3 rfl) ?_
  obtain ⟨a4_, h4, ea4, eh4, hF⟩ := nW_s hF
  have mm4 : hle h4 out.2 := (show Mo h4 _ from mo_gC (mo_bnd (moX3_table n h4 x1_ x2_ x3_ a4_) hle_rf (fun r5 u5 m5 => mo_pV m5 (fun h6 m6 => mo_ret m6)))) _ hF
  replace hc := cst_new hc eh4
  refine h_indy (k := 0) (b := a0) (n1 := p1) (n2 := p2) (n3 := p3) (rest := [.int x3_, .int x2_, .ref x1_, .ref a0]) (by decide) hx hb (by rw [hml]; exact hl.1.symm) hGr (hts _ q2551) B.named hr hS dX2_sets_17 rfl (Nat.le_of_ble_eq_true rfl) (bud hc mm4 hmc hms).1 (bud hc mm4 hmc hms).2 (fun H hr9 hS => ?_)
  have hr : hR D A h4 H := by rw [eh4]; exact hr9
  clear hr9
  rw [← ea4]
  obtain ⟨fc5, ec5, hF⟩ := gC_s hF
  obtain ⟨r5, u5, e5, hF⟩ := bnd_s hF
  have mm5 : hle u5 out.2 := (show Mo u5 _ from mo_pV hle_rf (fun h6 m6 => mo_ret m6)) _ hF
  obtain ⟨mc5, ms5, hmc5, hms5⟩ := up_of (moX3_table n h4 x1_ x2_ x3_ a4_ _ e5)
  replace hc := cst_call hc hmc5 hms5
  refine h_callr (va_runV (As := [.int x2_, .int x3_, .ref a4_]) (rest := [.ref a0]) ⟨hx, hb, hml, hown, hts⟩ (mgX3_table l D A h4 n x1_ x2_ x3_ a4_ _ e5 mc5 ms5 hmc5 hms5) (cwV 3 hts (lw_V q1145 q1146 q1147 q103 q1148) rfl rfl rfl (by decide +kernel) ⟨Nat.le_of_ble_eq_true rfl, Nat.le_of_ble_eq_true rfl⟩) (h_preV hGr hr hS ec5 (by decide) (q := (RX3, TX3, 2)) rfl _) rfl rfl hl.1 rfl (lv_room (Nat.le_of_ble_eq_true rfl)) dX2_sets_22 ⟨(bud hc mm5 hmc hms).1, (bud hc mm5 hmc hms).2⟩) hS (fun rr uu H locs hw hr hS => ?_)
  obtain rfl : u5 = uu := (congrArg Prod.snd hw).symm
  obtain rfl : r5 = rr := (congrArg Prod.fst hw).symm
  obtain ⟨fs6, e6, k6, lo6, hF⟩ := pV_s hF
  obtain ⟨h6, eh6⟩ : ∃ z, z = hPut u5 a0 (.inr (2, fs6.set 2 (.ref r5))) := ⟨_, rfl⟩
  rw [← eh6] at hF
  refine h_put (C := RX2) (T := TX2) (N := 11) hx hb hts in_X2 tyX2 tyX2_ok nmX2 hown hGr hr hS e6 (by decide) rfl 2 (by decide) (hts _ q568) (fun _ h9 => h9) rfl (tyX2_ok 2 (by decide)) rfl rfl k6 lo6 dX2_sets_25 (fun H locs hr hS => ?_)
  rw [← eh6] at hr
  replace hc := cst_put hc eh6
  have bz := bud_r hc hF hmc hms
  refine W.widen (k := mc) (n := ms) bz.1 bz.2 ?_
  exact W.vret hx hb hret (fun t ht hWm => ⟨⟨h6, rfl, Option.some.inj hF, h_end hGr hr hS ht hWm⟩, hS.F ht⟩) hS.2.2 dX2_sets_28

def GX2_projected (n : Nat) (h : Hp) (a0 : Nat) (p1 : Int32) : Option (Nat × Hp) := gQ h a0 2 0 (fun x1_ => nW h 101 [.ref a0] 1 (fun a2_ h2 => gC h2 x1_ 3 (bnd (GX3_table n h2 x1_ p1 p1 a2_) (fun r3 u3 => some (r3, u3)))))
theorem moX2_projected (n : Nat) (h : Hp) (a0 : Nat) (p1 : Int32) : Mo h (GX2_projected n h a0 p1) := by
  unfold GX2_projected
  exact mo_gQ (fun x1_ => mo_nW hle_rf (fun a2_ h2 m2 => mo_gC (mo_bnd (moX3_table n h2 x1_ p1 p1 a2_) m2 (fun r3 u3 m3 => mo_ret m3))))
set_option maxHeartbeats 4000000 in
set_option maxRecDepth 100000 in
theorem mgX2_projected (l : Launch) (D : HD) (A : Nat → Prop) (h : Hp) (n : Nat) (a0 : Nat) (p1 : Int32) (out : Nat × Hp) (hF : GX2_projected n h a0 p1 = some out) (mc ms : Nat) (hmc : hCc out.2 = hCc h + mc) (hms : hSl out.2 = hSl h + ms) : Met l yX2_projected (ws_ yX2_projected cX2_projected 2 (some (.array (.array .int)))) ({ frames := 8, cells := mc, slots := ms, locals := 3100 }) (va_Pc [.ref a0, .int p1] (hW D A h)) (va_Qr (fun _ : Hp => True) (fun u r t => (r, u) = out ∧ hW D A u t) A) mc ms A := by
  refine Met.ofW (cc := cX2_projected) (maxL := 2) (ret := (some (.array (.array .int)))) (by decide +kernel) rfl ?_
  intro p e s m args below meth c s₁ B hml hv
  obtain ⟨rfl, hr, hGr⟩ := hv
  have hx := B.exec
  have hb := B.bytes
  have hret := B.returns
  have hts := atoms_spec (ws := (ws_ yX2_projected cX2_projected 2 (some (.array (.array .int))))) B.pre
  have hts : ∀ w ∈ lw_all, w.before _ s = true := fun w h => hts w (List.mem_cons_of_mem _ h)
  have hown : s.vm.findClass RX2 = some m.cls := findClass_of_methodNamed B.named
  have hlocks := B.notSynchronized
  have hS : va_S A s.heap s.heap [] := va_S.rf
  have hc : cst h 0 0 h := cst_0
  have hl := lv_entry ([.ref a0, .int p1]) (n := 2) (Nat.le_of_ble_eq_true rfl)
  rw [lg_entry_eq]
  generalize (lg_sl ([.ref a0, .int p1]) ++ List.replicate (2 - (lg_sl ([.ref a0, .int p1])).length) Slot.unset).toArray = ls at hl ⊢
  have hl : lv_has ls 2 [(0, .ref a0), (1, .int p1)] := hl
  unfold GX2_projected at hF
  refine lv_aload_n hx hb dX2_projected_0 rfl (lv_at hl 0 rfl) ?_
  obtain ⟨fs1, x1_, e1, f1, hF⟩ := gQ_s hF
  refine h_get (C := RX2) (T := TX2) (N := 11) hx hb hts in_X2 hown hGr hr e1 (by decide) rfl 0 (by decide) (hts _ q562) (fun _ h9 => h9) f1 dX2_projected_1 ?_
  refine lv_iload_n hx hb dX2_projected_4 rfl (lv_at hl 1 rfl) ?_
  refine lv_iload_n hx hb dX2_projected_5 rfl (lv_at hl 1 rfl) ?_
  refine lv_aload_n hx hb dX2_projected_6 rfl (lv_at hl 0 rfl) ?_
  obtain ⟨a2_, h2, ea2, eh2, hF⟩ := nW_s hF
  have mm2 : hle h2 out.2 := (show Mo h2 _ from mo_gC (mo_bnd (moX3_table n h2 x1_ p1 p1 a2_) hle_rf (fun r3 u3 m3 => mo_ret m3))) _ hF
  replace hc := cst_new hc eh2
  refine h_indy (k := 1) (b := a0) (n1 := (0 : Int32)) (n2 := (0 : Int32)) (n3 := (0 : Int32)) (rest := [.int p1, .int p1, .ref x1_]) (by decide) hx hb (by rw [hml]; exact hl.1.symm) hGr (hts _ q2551) B.named hr hS dX2_projected_7 rfl (Nat.le_of_ble_eq_true rfl) (bud hc mm2 hmc hms).1 (bud hc mm2 hmc hms).2 (fun H hr9 hS => ?_)
  have hr : hR D A h2 H := by rw [eh2]; exact hr9
  clear hr9
  rw [← ea2]
  obtain ⟨fc3, ec3, hF⟩ := gC_s hF
  obtain ⟨r3, u3, e3, hF⟩ := bnd_s hF
  have mm3 : hle u3 out.2 := (show Mo u3 _ from mo_ret hle_rf) _ hF
  obtain ⟨mc3, ms3, hmc3, hms3⟩ := up_of (moX3_table n h2 x1_ p1 p1 a2_ _ e3)
  replace hc := cst_call hc hmc3 hms3
  refine h_callr (va_runV (As := [.int p1, .int p1, .ref a2_]) (rest := []) ⟨hx, hb, hml, hown, hts⟩ (mgX3_table l D A h2 n x1_ p1 p1 a2_ _ e3 mc3 ms3 hmc3 hms3) (cwV 3 hts (lw_V q1145 q1146 q1147 q103 q1148) rfl rfl rfl (by decide +kernel) ⟨Nat.le_of_ble_eq_true rfl, Nat.le_of_ble_eq_true rfl⟩) (h_preV hGr hr hS ec3 (by decide) (q := (RX3, TX3, 2)) rfl _) rfl rfl hl.1 rfl (lv_room (Nat.le_of_ble_eq_true rfl)) dX2_projected_12 ⟨(bud hc mm3 hmc hms).1, (bud hc mm3 hmc hms).2⟩) hS (fun rr uu H locs hw hr hS => ?_)
  obtain rfl : u3 = uu := (congrArg Prod.snd hw).symm
  obtain rfl : r3 = rr := (congrArg Prod.fst hw).symm
  have bz := bud_r hc hF hmc hms
  refine W.widen (k := mc) (n := ms) bz.1 bz.2 ?_
  exact W.aret (v := .ref r3) hx hb hret (Or.inr ⟨_, rfl⟩) (Or.inr ⟨_, rfl⟩) (fun t ht hWm => ⟨⟨u3, r3, rfl, trivial, Option.some.inj hF, h_end hGr hr hS ht hWm⟩, hS.F ht⟩) hS.2.2 dX2_projected_15

def GX2_lessUnit (n : Nat) (h : Hp) (a0 : Nat) (p1 : Int32) : Option (Nat × Hp) := nW h 9 [.null, .null, .int 0, .int 0] 4 (fun a1_ h1 => gQ h1 a0 2 0 (fun x2_ => gQ h1 a0 2 0 (fun x3_ => gI h1 a0 2 1 (fun x4_ => gI h1 a0 2 1 (fun x5_ => nW h1 102 [.ref a0, .int p1] 2 (fun a6_ h6 => gC h6 x3_ 3 (bnd (GX3_table n h6 x3_ x4_ x5_ a6_) (fun r7 u7 => bnd (GX10_init n u7 a1_ x2_ r7) (fun r8 u8 => some (a1_, u8))))))))))
theorem moX2_lessUnit (n : Nat) (h : Hp) (a0 : Nat) (p1 : Int32) : Mo h (GX2_lessUnit n h a0 p1) := by
  unfold GX2_lessUnit
  exact mo_nW hle_rf (fun a1_ h1 m1 => mo_gQ (fun x2_ => mo_gQ (fun x3_ => mo_gI (fun x4_ => mo_gI (fun x5_ => mo_nW m1 (fun a6_ h6 m6 => mo_gC (mo_bnd (moX3_table n h6 x3_ x4_ x5_ a6_) m6 (fun r7 u7 m7 => mo_bnd (moX10_init n u7 a1_ x2_ r7) m7 (fun r8 u8 m8 => mo_ret m8)))))))))
set_option maxHeartbeats 4000000 in
set_option maxRecDepth 100000 in
theorem mgX2_lessUnit (l : Launch) (D : HD) (A : Nat → Prop) (h : Hp) (n : Nat) (a0 : Nat) (p1 : Int32) (out : Nat × Hp) (hF : GX2_lessUnit n h a0 p1 = some out) (mc ms : Nat) (hmc : hCc out.2 = hCc h + mc) (hms : hSl out.2 = hSl h + ms) : Met l yX2_lessUnit (ws_ yX2_lessUnit cX2_lessUnit 2 (some (.object "ExactChains$Steps"))) ({ frames := 8, cells := mc, slots := ms, locals := 3100 }) (va_Pc [.ref a0, .int p1] (hW D A h)) (va_Qr (fun _ : Hp => True) (fun u r t => (r, u) = out ∧ hW D A u t) A) mc ms A := by
  refine Met.ofW (cc := cX2_lessUnit) (maxL := 2) (ret := (some (.object "ExactChains$Steps"))) (by decide +kernel) rfl ?_
  intro p e s m args below meth c s₁ B hml hv
  obtain ⟨rfl, hr, hGr⟩ := hv
  have hx := B.exec
  have hb := B.bytes
  have hret := B.returns
  have hts := atoms_spec (ws := (ws_ yX2_lessUnit cX2_lessUnit 2 (some (.object "ExactChains$Steps")))) B.pre
  have hts : ∀ w ∈ lw_all, w.before _ s = true := fun w h => hts w (List.mem_cons_of_mem _ h)
  have hown : s.vm.findClass RX2 = some m.cls := findClass_of_methodNamed B.named
  have hlocks := B.notSynchronized
  have hS : va_S A s.heap s.heap [] := va_S.rf
  have hc : cst h 0 0 h := cst_0
  have hl := lv_entry ([.ref a0, .int p1]) (n := 2) (Nat.le_of_ble_eq_true rfl)
  rw [lg_entry_eq]
  generalize (lg_sl ([.ref a0, .int p1]) ++ List.replicate (2 - (lg_sl ([.ref a0, .int p1])).length) Slot.unset).toArray = ls at hl ⊢
  have hl : lv_has ls 2 [(0, .ref a0), (1, .int p1)] := hl
  unfold GX2_lessUnit at hF
  obtain ⟨a1_, h1, ea1, eh1, hF⟩ := nW_s hF
  have mm1 : hle h1 out.2 := (show Mo h1 _ from mo_gQ (fun x2_ => mo_gQ (fun x3_ => mo_gI (fun x4_ => mo_gI (fun x5_ => mo_nW hle_rf (fun a6_ h6 m6 => mo_gC (mo_bnd (moX3_table n h6 x3_ x4_ x5_ a6_) m6 (fun r7 u7 m7 => mo_bnd (moX10_init n u7 a1_ x2_ r7) m7 (fun r8 u8 m8 => mo_ret m8))))))))) _ hF
  replace hc := cst_new hc eh1
  refine h_new (C := RX10) (T := TX10) (N := 4) hx hb hts in_X10 tyX10 tyX10_ok hown (hts _ q1088) (hts _ q1089) (hts _ q141) hGr hr hS (ci := 9) (by decide) rfl (fs := [.null, .null, .int 0, .int 0]) (fun j hj => by match j, hj with | 0, _ => rfl | 1, _ => rfl | 2, _ => rfl | 3, _ => rfl | j + 4, hj => omega) (bud hc mm1 hmc hms).1 (bud hc mm1 hmc hms).2 dX2_lessUnit_0 (fun H hr hS => ?_)
  rw [← eh1] at hr
  rw [← ea1]
  refine lv_dup hx hb dX2_lessUnit_3 rfl ?_
  refine lv_aload_n hx hb dX2_lessUnit_4 rfl (lv_at hl 0 rfl) ?_
  obtain ⟨fs2, x2_, e2, f2, hF⟩ := gQ_s hF
  refine h_get (C := RX2) (T := TX2) (N := 11) hx hb hts in_X2 hown hGr hr e2 (by decide) rfl 0 (by decide) (hts _ q562) (fun _ h9 => h9) f2 dX2_lessUnit_5 ?_
  refine lv_aload_n hx hb dX2_lessUnit_8 rfl (lv_at hl 0 rfl) ?_
  obtain ⟨fs3, x3_, e3, f3, hF⟩ := gQ_s hF
  refine h_get (C := RX2) (T := TX2) (N := 11) hx hb hts in_X2 hown hGr hr e3 (by decide) rfl 0 (by decide) (hts _ q562) (fun _ h9 => h9) f3 dX2_lessUnit_9 ?_
  refine lv_aload_n hx hb dX2_lessUnit_12 rfl (lv_at hl 0 rfl) ?_
  obtain ⟨fs4, x4_, e4, f4, hF⟩ := gI_s hF
  refine h_get (C := RX2) (T := TX2) (N := 11) hx hb hts in_X2 hown hGr hr e4 (by decide) rfl 1 (by decide) (hts _ q565) (fun _ h9 => h9) f4 dX2_lessUnit_13 ?_
  refine lv_aload_n hx hb dX2_lessUnit_16 rfl (lv_at hl 0 rfl) ?_
  obtain ⟨fs5, x5_, e5, f5, hF⟩ := gI_s hF
  refine h_get (C := RX2) (T := TX2) (N := 11) hx hb hts in_X2 hown hGr hr e5 (by decide) rfl 1 (by decide) (hts _ q565) (fun _ h9 => h9) f5 dX2_lessUnit_17 ?_
  refine lv_aload_n hx hb dX2_lessUnit_20 rfl (lv_at hl 0 rfl) ?_
  refine lv_iload_n hx hb dX2_lessUnit_21 rfl (lv_at hl 1 rfl) ?_
  obtain ⟨a6_, h6, ea6, eh6, hF⟩ := nW_s hF
  have mm6 : hle h6 out.2 := (show Mo h6 _ from mo_gC (mo_bnd (moX3_table n h6 x3_ x4_ x5_ a6_) hle_rf (fun r7 u7 m7 => mo_bnd (moX10_init n u7 a1_ x2_ r7) m7 (fun r8 u8 m8 => mo_ret m8)))) _ hF
  replace hc := cst_new hc eh6
  refine h_indy (k := 2) (b := a0) (n1 := p1) (n2 := (0 : Int32)) (n3 := (0 : Int32)) (rest := [.int x5_, .int x4_, .ref x3_, .ref x2_, .ref a1_, .ref a1_]) (by decide) hx hb (by rw [hml]; exact hl.1.symm) hGr (hts _ q2551) B.named hr hS dX2_lessUnit_22 rfl (Nat.le_of_ble_eq_true rfl) (bud hc mm6 hmc hms).1 (bud hc mm6 hmc hms).2 (fun H hr9 hS => ?_)
  have hr : hR D A h6 H := by rw [eh6]; exact hr9
  clear hr9
  rw [← ea6]
  obtain ⟨fc7, ec7, hF⟩ := gC_s hF
  obtain ⟨r7, u7, e7, hF⟩ := bnd_s hF
  have mm7 : hle u7 out.2 := (show Mo u7 _ from mo_bnd (moX10_init n u7 a1_ x2_ r7) hle_rf (fun r8 u8 m8 => mo_ret m8)) _ hF
  obtain ⟨mc7, ms7, hmc7, hms7⟩ := up_of (moX3_table n h6 x3_ x4_ x5_ a6_ _ e7)
  replace hc := cst_call hc hmc7 hms7
  refine h_callr (va_runV (As := [.int x4_, .int x5_, .ref a6_]) (rest := [.ref x2_, .ref a1_, .ref a1_]) ⟨hx, hb, hml, hown, hts⟩ (mgX3_table l D A h6 n x3_ x4_ x5_ a6_ _ e7 mc7 ms7 hmc7 hms7) (cwV 3 hts (lw_V q1145 q1146 q1147 q103 q1148) rfl rfl rfl (by decide +kernel) ⟨Nat.le_of_ble_eq_true rfl, Nat.le_of_ble_eq_true rfl⟩) (h_preV hGr hr hS ec7 (by decide) (q := (RX3, TX3, 2)) rfl _) rfl rfl hl.1 rfl (lv_room (Nat.le_of_ble_eq_true rfl)) dX2_lessUnit_27 ⟨(bud hc mm7 hmc hms).1, (bud hc mm7 hmc hms).2⟩) hS (fun rr uu H locs hw hr hS => ?_)
  obtain rfl : u7 = uu := (congrArg Prod.snd hw).symm
  obtain rfl : r7 = rr := (congrArg Prod.fst hw).symm
  obtain ⟨r8, u8, e8, hF⟩ := bnd_s hF
  have mm8 : hle u8 out.2 := (show Mo u8 _ from mo_ret hle_rf) _ hF
  obtain ⟨mc8, ms8, hmc8, hms8⟩ := up_of (moX10_init n u7 a1_ x2_ r7 _ e8)
  replace hc := cst_call hc hmc8 hms8
  refine h_callv (va_runI (As := [.ref x2_, .ref r7]) (rest := [.ref a1_]) ⟨hx, hb, hml, hown, hts⟩ (mgX10_init l D A u7 n a1_ x2_ r7 _ e8 mc8 ms8 hmc8 hms8) (cwI 2 hts (lw_meth q1092) rfl rfl rfl (hts _ q141) (hts _ q1090) (hts _ q1091) rfl (by decide +kernel) ⟨Nat.le_of_ble_eq_true rfl, Nat.le_of_ble_eq_true rfl⟩) (h_preS hGr hr hS _) rfl rfl hl.1 rfl (lv_room (Nat.le_of_ble_eq_true rfl)) dX2_lessUnit_30 ⟨(bud hc mm8 hmc hms).1, (bud hc mm8 hmc hms).2⟩) hS (fun uu H locs hw hr hS => ?_)
  obtain rfl : u8 = uu := (congrArg Prod.snd hw).symm
  have bz := bud_r hc hF hmc hms
  refine W.widen (k := mc) (n := ms) bz.1 bz.2 ?_
  exact W.aret (v := .ref a1_) hx hb hret (Or.inl ⟨_, rfl⟩) (Or.inr ⟨_, rfl⟩) (fun t ht hWm => ⟨⟨u8, a1_, rfl, trivial, Option.some.inj hF, h_end hGr hr hS ht hWm⟩, hS.F ht⟩) hS.2.2 dX2_lessUnit_33

def GX2_determinantAt (n : Nat) (h : Hp) (a0 : Nat) (p1 : Int32) : Option (Int32 × Hp) := gC h a0 2 (bnd (GX2_lessUnit n h a0 p1) (fun r1 u1 => gI u1 r1 9 3 (fun x2_ => some (x2_, u1))))
theorem moX2_determinantAt (n : Nat) (h : Hp) (a0 : Nat) (p1 : Int32) : Mo h (GX2_determinantAt n h a0 p1) := by
  unfold GX2_determinantAt
  exact mo_gC (mo_bnd (moX2_lessUnit n h a0 p1) hle_rf (fun r1 u1 m1 => mo_gI (fun x2_ => mo_ret m1)))
set_option maxHeartbeats 4000000 in
set_option maxRecDepth 100000 in
theorem mgX2_determinantAt (l : Launch) (D : HD) (A : Nat → Prop) (h : Hp) (n : Nat) (a0 : Nat) (p1 : Int32) (out : Int32 × Hp) (hF : GX2_determinantAt n h a0 p1 = some out) (mc ms : Nat) (hmc : hCc out.2 = hCc h + mc) (hms : hSl out.2 = hSl h + ms) : Met l yX2_determinantAt (ws_ yX2_determinantAt cX2_determinantAt 2 (some .int)) ({ frames := 9, cells := mc, slots := ms, locals := 3121 }) (va_Pc [.ref a0, .int p1] (hW D A h)) (va_Qi (fun r u => (r, u) = out) (hW D A) A) mc ms A := by
  refine Met.ofW (cc := cX2_determinantAt) (maxL := 2) (ret := (some .int)) (by decide +kernel) rfl ?_
  intro p e s m args below meth c s₁ B hml hv
  obtain ⟨rfl, hr, hGr⟩ := hv
  have hx := B.exec
  have hb := B.bytes
  have hret := B.returns
  have hts := atoms_spec (ws := (ws_ yX2_determinantAt cX2_determinantAt 2 (some .int))) B.pre
  have hts : ∀ w ∈ lw_all, w.before _ s = true := fun w h => hts w (List.mem_cons_of_mem _ h)
  have hown : s.vm.findClass RX2 = some m.cls := findClass_of_methodNamed B.named
  have hlocks := B.notSynchronized
  have hS : va_S A s.heap s.heap [] := va_S.rf
  have hc : cst h 0 0 h := cst_0
  have hl := lv_entry ([.ref a0, .int p1]) (n := 2) (Nat.le_of_ble_eq_true rfl)
  rw [lg_entry_eq]
  generalize (lg_sl ([.ref a0, .int p1]) ++ List.replicate (2 - (lg_sl ([.ref a0, .int p1])).length) Slot.unset).toArray = ls at hl ⊢
  have hl : lv_has ls 2 [(0, .ref a0), (1, .int p1)] := hl
  unfold GX2_determinantAt at hF
  refine lv_aload_n hx hb dX2_determinantAt_0 rfl (lv_at hl 0 rfl) ?_
  refine lv_iload_n hx hb dX2_determinantAt_1 rfl (lv_at hl 1 rfl) ?_
  obtain ⟨fc1, ec1, hF⟩ := gC_s hF
  obtain ⟨r1, u1, e1, hF⟩ := bnd_s hF
  have mm1 : hle u1 out.2 := (show Mo u1 _ from mo_gI (fun x2_ => mo_ret hle_rf)) _ hF
  obtain ⟨mc1, ms1, hmc1, hms1⟩ := up_of (moX2_lessUnit n h a0 p1 _ e1)
  replace hc := cst_call hc hmc1 hms1
  refine h_callr (va_runV (As := [.int p1]) (rest := []) ⟨hx, hb, hml, hown, hts⟩ (mgX2_lessUnit l D A h n a0 p1 _ e1 mc1 ms1 hmc1 hms1) (cwV 1 hts (lw_V q1176 q1178 qs24 q102 q1179) rfl rfl rfl (by decide +kernel) ⟨Nat.le_of_ble_eq_true rfl, Nat.le_of_ble_eq_true rfl⟩) (h_preV hGr hr hS ec1 (by decide) (q := (RX2, TX2, 11)) rfl _) rfl rfl hl.1 rfl (lv_room (Nat.le_of_ble_eq_true rfl)) dX2_determinantAt_2 ⟨(bud hc mm1 hmc hms).1, (bud hc mm1 hmc hms).2⟩) hS (fun rr uu H locs hw hr hS => ?_)
  obtain rfl : u1 = uu := (congrArg Prod.snd hw).symm
  obtain rfl : r1 = rr := (congrArg Prod.fst hw).symm
  obtain ⟨fs2, x2_, e2, f2, hF⟩ := gI_s hF
  refine h_getN (C := RX10) (T := TX10) (N := 4) hx hb hts in_X10 hown hGr hr e2 (by decide) rfl 3 (by decide) (va_Nw.use rfl (hGr.nw q1115 rfl)) (fun _ h9 => h9) f2 dX2_determinantAt_5 ?_
  have bz := bud_r hc hF hmc hms
  refine W.widen (k := mc) (n := ms) bz.1 bz.2 ?_
  exact W.iret (v := x2_) hx hb hret (fun t ht hWm => ⟨⟨x2_, u1, rfl, Option.some.inj hF, h_end hGr hr hS ht hWm⟩, hS.F ht⟩) hS.2.2 dX2_determinantAt_8

def GX2_dimension (n : Nat) (h : Hp) (a0 : Nat) (p1 : Int32) : Option (Int32 × Hp) := gI h a0 2 1 (fun x1_ => gC h a0 2 (bnd (GX2_lessUnit n h a0 p1) (fun r2 u2 => gI u2 r2 9 2 (fun x3_ => some ((x1_ - x3_), u2)))))
theorem moX2_dimension (n : Nat) (h : Hp) (a0 : Nat) (p1 : Int32) : Mo h (GX2_dimension n h a0 p1) := by
  unfold GX2_dimension
  exact mo_gI (fun x1_ => mo_gC (mo_bnd (moX2_lessUnit n h a0 p1) hle_rf (fun r2 u2 m2 => mo_gI (fun x3_ => mo_ret m2))))
set_option maxHeartbeats 4000000 in
set_option maxRecDepth 100000 in
theorem mgX2_dimension (l : Launch) (D : HD) (A : Nat → Prop) (h : Hp) (n : Nat) (a0 : Nat) (p1 : Int32) (out : Int32 × Hp) (hF : GX2_dimension n h a0 p1 = some out) (mc ms : Nat) (hmc : hCc out.2 = hCc h + mc) (hms : hSl out.2 = hSl h + ms) : Met l yX2_dimension (ws_ yX2_dimension cX2_dimension 2 (some .int)) ({ frames := 9, cells := mc, slots := ms, locals := 3121 }) (va_Pc [.ref a0, .int p1] (hW D A h)) (va_Qi (fun r u => (r, u) = out) (hW D A) A) mc ms A := by
  refine Met.ofW (cc := cX2_dimension) (maxL := 2) (ret := (some .int)) (by decide +kernel) rfl ?_
  intro p e s m args below meth c s₁ B hml hv
  obtain ⟨rfl, hr, hGr⟩ := hv
  have hx := B.exec
  have hb := B.bytes
  have hret := B.returns
  have hts := atoms_spec (ws := (ws_ yX2_dimension cX2_dimension 2 (some .int))) B.pre
  have hts : ∀ w ∈ lw_all, w.before _ s = true := fun w h => hts w (List.mem_cons_of_mem _ h)
  have hown : s.vm.findClass RX2 = some m.cls := findClass_of_methodNamed B.named
  have hlocks := B.notSynchronized
  have hS : va_S A s.heap s.heap [] := va_S.rf
  have hc : cst h 0 0 h := cst_0
  have hl := lv_entry ([.ref a0, .int p1]) (n := 2) (Nat.le_of_ble_eq_true rfl)
  rw [lg_entry_eq]
  generalize (lg_sl ([.ref a0, .int p1]) ++ List.replicate (2 - (lg_sl ([.ref a0, .int p1])).length) Slot.unset).toArray = ls at hl ⊢
  have hl : lv_has ls 2 [(0, .ref a0), (1, .int p1)] := hl
  unfold GX2_dimension at hF
  refine lv_aload_n hx hb dX2_dimension_0 rfl (lv_at hl 0 rfl) ?_
  obtain ⟨fs1, x1_, e1, f1, hF⟩ := gI_s hF
  refine h_get (C := RX2) (T := TX2) (N := 11) hx hb hts in_X2 hown hGr hr e1 (by decide) rfl 1 (by decide) (hts _ q565) (fun _ h9 => h9) f1 dX2_dimension_1 ?_
  refine lv_aload_n hx hb dX2_dimension_4 rfl (lv_at hl 0 rfl) ?_
  refine lv_iload_n hx hb dX2_dimension_5 rfl (lv_at hl 1 rfl) ?_
  obtain ⟨fc2, ec2, hF⟩ := gC_s hF
  obtain ⟨r2, u2, e2, hF⟩ := bnd_s hF
  have mm2 : hle u2 out.2 := (show Mo u2 _ from mo_gI (fun x3_ => mo_ret hle_rf)) _ hF
  obtain ⟨mc2, ms2, hmc2, hms2⟩ := up_of (moX2_lessUnit n h a0 p1 _ e2)
  replace hc := cst_call hc hmc2 hms2
  refine h_callr (va_runV (As := [.int p1]) (rest := [.int x1_]) ⟨hx, hb, hml, hown, hts⟩ (mgX2_lessUnit l D A h n a0 p1 _ e2 mc2 ms2 hmc2 hms2) (cwV 1 hts (lw_V q1176 q1178 qs24 q102 q1179) rfl rfl rfl (by decide +kernel) ⟨Nat.le_of_ble_eq_true rfl, Nat.le_of_ble_eq_true rfl⟩) (h_preV hGr hr hS ec2 (by decide) (q := (RX2, TX2, 11)) rfl _) rfl rfl hl.1 rfl (lv_room (Nat.le_of_ble_eq_true rfl)) dX2_dimension_6 ⟨(bud hc mm2 hmc hms).1, (bud hc mm2 hmc hms).2⟩) hS (fun rr uu H locs hw hr hS => ?_)
  obtain rfl : u2 = uu := (congrArg Prod.snd hw).symm
  obtain rfl : r2 = rr := (congrArg Prod.fst hw).symm
  obtain ⟨fs3, x3_, e3, f3, hF⟩ := gI_s hF
  refine h_getN (C := RX10) (T := TX10) (N := 4) hx hb hts in_X10 hown hGr hr e3 (by decide) rfl 2 (by decide) (va_Nw.use rfl (hGr.nw q1113 rfl)) (fun _ h9 => h9) f3 dX2_dimension_9 ?_
  refine lv_isub hx hb dX2_dimension_12 ?_
  have bz := bud_r hc hF hmc hms
  refine W.widen (k := mc) (n := ms) bz.1 bz.2 ?_
  exact W.iret (v := (x1_ - x3_)) hx hb hret (fun t ht hWm => ⟨⟨(x1_ - x3_), u2, rfl, Option.some.inj hF, h_end hGr hr hS ht hWm⟩, hS.F ht⟩) hS.2.2 dX2_dimension_13

def GX2_solution_1 (R : Nat → Hp → Nat → Int32 → Nat → Nat → Nat → Int32 → Option (Option Nat × Hp)) (n : Nat) (h : Hp) (b0 : Nat) (x1 : Int32) (b2 : Nat) (b3 : Nat) (b4 : Nat) (x5 : Int32) : Option (Option Nat × Hp) := if x1 ≤ x5 then some ((some b4), h) else gQ h b0 2 0 (fun x18_ => gQ h b0 2 0 (fun x19_ => aQ h b2 4 x5 (fun x20_ => aI h x20_ 0 x1 (fun x21_ => gC h x19_ 3 (bnd (GX3_less h x19_ (0 : Int32) x21_) (fun r22 u22 => gC u22 b0 2 (bnd (GX2_vector u22 b0 x5) (fun r23 u23 => gC u23 x18_ 3 (bnd (GX3_without n u23 x18_ b4 r22 r23) (fun r24 u24 => R 1 u24 b0 x1 b2 b3 r24 (x5 + 1)))))))))))
def GX2_solution_r : Nat → Nat → Hp → Nat → Int32 → Nat → Nat → Nat → Int32 → Option (Option Nat × Hp)
  | 0 => fun _ _ _ _ _ _ _ _ => none
  | n + 1 => fun k => match k with  | _ => GX2_solution_1 (GX2_solution_r n) n
def GX2_solution_0 (R : Nat → Hp → Nat → Int32 → Nat → Nat → Nat → Int32 → Option (Option Nat × Hp)) (n : Nat) (h : Hp) (a0 : Nat) : Option (Option Nat × Hp) := gQ h a0 2 8 (fun x1_ => gC h x1_ 10 (bnd (GJ2_get h x1_ (0 : Int32)) (fun r2 u2 => gC u2 r2 7 (gC u2 r2 7 (bnd (GX8_many u2 r2) (fun r4 u4 => gQ u4 a0 2 0 (fun x5_ => nW u4 103 [.ref a0, .int r4] 2 (fun a6_ h6 => gC h6 x5_ 3 (bnd (GX3_table n h6 x5_ r4 (r4 + 1) a6_) (fun r7 u7 => nW u7 9 [.null, .null, .int 0, .int 0] 4 (fun a8_ h8 => gQ h8 a0 2 0 (fun x9_ => bnd (GX10_init_2 n h8 a8_ x9_ r4 r7) (fun r10 u10 => gI u10 a8_ 9 3 (fun x11_ => if x11_ = 0 then some ((none), u10) else nW u10 4 [.null] 1 (fun a13_ h13 => gI h13 a0 2 1 (fun x14_ => nA h13 0 x14_ (fun a15_ h15 => bnd (GX4_init h15 a13_ a15_) (fun r16 u16 => R 1 u16 a0 r4 r7 a8_ a13_ (0 : Int32)))))))))))))))))))
def GX2_solution (n : Nat) (h : Hp) (a0 : Nat) : Option (Option Nat × Hp) := GX2_solution_0 (GX2_solution_r n) n h a0
theorem moX2_solution_r (n : Nat) : (∀ (h : Hp) (b0 : Nat) (x1 : Int32) (b2 : Nat) (b3 : Nat) (b4 : Nat) (x5 : Int32), Mo h (GX2_solution_r n 1 h b0 x1 b2 b3 b4 x5)) := by
  induction n with
  | zero => exact (fun _ _ _ _ _ _ _ => mo_no)
  | succ n ih =>
    have ml1 := ih
    exact (fun h b0 x1 b2 b3 b4 x5 => show Mo h (GX2_solution_1 (GX2_solution_r n) n h b0 x1 b2 b3 b4 x5) from by unfold GX2_solution_1; exact mo_ite (mo_ret hle_rf) (mo_gQ (fun x18_ => mo_gQ (fun x19_ => mo_aQ (fun x20_ => mo_aI (fun x21_ => mo_gC (mo_bnd (moX3_less h x19_ (0 : Int32) x21_) hle_rf (fun r22 u22 m22 => mo_gC (mo_bnd (moX2_vector u22 b0 x5) m22 (fun r23 u23 m23 => mo_gC (mo_bnd (moX3_without n u23 x18_ b4 r22 r23) m23 (fun r24 u24 m24 => mo_tr m24 (ml1 u24 b0 x1 b2 b3 r24 (x5 + 1))))))))))))))
theorem moX2_solution (n : Nat) (h : Hp) (a0 : Nat) : Mo h (GX2_solution n h a0) := by
  have ml1 := moX2_solution_r n
  unfold GX2_solution GX2_solution_0
  exact mo_gQ (fun x1_ => mo_gC (mo_bnd (moJ2_get h x1_ (0 : Int32)) hle_rf (fun r2 u2 m2 => mo_gC (mo_gC (mo_bnd (moX8_many u2 r2) m2 (fun r4 u4 m4 => mo_gQ (fun x5_ => mo_nW m4 (fun a6_ h6 m6 => mo_gC (mo_bnd (moX3_table n h6 x5_ r4 (r4 + 1) a6_) m6 (fun r7 u7 m7 => mo_nW m7 (fun a8_ h8 m8 => mo_gQ (fun x9_ => mo_bnd (moX10_init_2 n h8 a8_ x9_ r4 r7) m8 (fun r10 u10 m10 => mo_gI (fun x11_ => mo_ite (mo_ret m10) (mo_nW m10 (fun a13_ h13 m13 => mo_gI (fun x14_ => mo_nA m13 (fun a15_ h15 m15 => mo_bnd (moX4_init h15 a13_ a15_) m15 (fun r16 u16 m16 => mo_tr m16 (ml1 u16 a0 r4 r7 a8_ a13_ (0 : Int32)))))))))))))))))))))
set_option maxHeartbeats 4000000 in
set_option maxRecDepth 100000 in
theorem mgX2_solution (l : Launch) (D : HD) (A : Nat → Prop) (h : Hp) (n : Nat) (a0 : Nat) (out : Option Nat × Hp) (hF : GX2_solution n h a0 = some out) (mc ms : Nat) (hmc : hCc out.2 = hCc h + mc) (hms : hSl out.2 = hSl h + ms) : Met l yX2_solution (ws_ yX2_solution cX2_solution 6 (some (.object "ExactChains$Vector"))) ({ frames := 8, cells := mc, slots := ms, locals := 3100 }) (va_Pc [.ref a0] (hW D A h)) (va_Qq (fun r u => (r, u) = out) (hW D A) A) mc ms A := by
  refine Met.ofW (cc := cX2_solution) (maxL := 6) (ret := (some (.object "ExactChains$Vector"))) (by decide +kernel) rfl ?_
  intro p e s m args below meth c s₁ B hml hv
  obtain ⟨rfl, hr, hGr⟩ := hv
  have hx := B.exec
  have hb := B.bytes
  have hret := B.returns
  have hts := atoms_spec (ws := (ws_ yX2_solution cX2_solution 6 (some (.object "ExactChains$Vector")))) B.pre
  have hts : ∀ w ∈ lw_all, w.before _ s = true := fun w h => hts w (List.mem_cons_of_mem _ h)
  have hown : s.vm.findClass RX2 = some m.cls := findClass_of_methodNamed B.named
  have hlocks := B.notSynchronized
  have hS : va_S A s.heap s.heap [] := va_S.rf
  have hc : cst h 0 0 h := cst_0
  have hl := lv_entry ([.ref a0]) (n := 6) (Nat.le_of_ble_eq_true rfl)
  rw [lg_entry_eq]
  generalize (lg_sl ([.ref a0]) ++ List.replicate (6 - (lg_sl ([.ref a0])).length) Slot.unset).toArray = ls at hl ⊢
  have hl : lv_has ls 6 [(0, .ref a0)] := hl
  obtain ⟨h0, eh0⟩ : ∃ z, z = h := ⟨_, rfl⟩
  rw [← eh0] at hmc hms
  have loop : ∀ n : Nat, (∀ (h : Hp) (b0 : Nat) (x1 : Int32) (b2 : Nat) (b3 : Nat) (b4 : Nat) (x5 : Int32), GX2_solution_r n 1 h b0 x1 b2 b3 b4 x5 = some out → ∀ (H : Heap) (locs : List Loc) (cells slots : Nat), cst h0 cells slots h → hR D A h H → va_S A s.heap H locs → ∀ ls : Array Slot, lv_has ls 6 [(0, .ref b0), (1, .int x1), (2, .ref b2), (3, .ref b3), (4, .ref b4), (5, .int x5)] → W p l e (headSpec (ws_ yX2_solution cX2_solution 6 (some (.object "ExactChains$Vector"))) ({ frames := 8, cells := mc, slots := ms, locals := 3100 })).room s m ([.ref a0] : List Value).toArray below meth c H locs cells slots (MQ below (va_Qq (fun r u => (r, u) = out) (hW D A) A) ([.ref a0] : List Value).toArray s mc ms A) (F0 m 77 ls [])) := by
    intro n
    induction n with
    | zero => exact (fun _ _ _ _ _ _ _ h => nomatch h)
    | succ n ih =>
      have lp1 := ih
      have ml1 := moX2_solution_r n
      intro h b0 x1 b2 b3 b4 x5 hF H locs cells slots hc hr hS ls hl
      replace hF : GX2_solution_1 (GX2_solution_r n) n h b0 x1 b2 b3 b4 x5 = some out := hF
      unfold GX2_solution_1 at hF
      refine lv_iload hx hb dX2_solution_77 (lv_at hl 5 rfl) ?_
      refine lv_iload_n hx hb dX2_solution_79 rfl (lv_at hl 1 rfl) ?_
      refine lv_icmp_ge (tgt := 120) hx hb dX2_solution_80 (by decide) (fun c17 => ?_) (fun c17 => ?_)
      · replace hF := it_t c17 hF
        refine lv_aload hx hb dX2_solution_120 (lv_at hl 4 rfl) ?_
        have bz := bud_r hc hF hmc hms
        refine W.widen (k := mc) (n := ms) bz.1 bz.2 ?_
        exact W.aret (v := va_rf (some b4)) hx hb hret (Or.inl ⟨_, rfl⟩) (va_rf_or _) (fun t ht hWm => ⟨⟨(some b4), h, rfl, Option.some.inj hF, h_end hGr hr hS ht hWm⟩, hS.F ht⟩) hS.2.2 dX2_solution_122
      · replace hF := it_f c17 hF
        refine lv_aload_n hx hb dX2_solution_83 rfl (lv_at hl 0 rfl) ?_
        obtain ⟨fs18, x18_, e18, f18, hF⟩ := gQ_s hF
        refine h_get (C := RX2) (T := TX2) (N := 11) hx hb hts in_X2 hown hGr hr e18 (by decide) rfl 0 (by decide) (hts _ q562) (fun _ h9 => h9) f18 dX2_solution_84 ?_
        refine lv_aload hx hb dX2_solution_87 (lv_at hl 4 rfl) ?_
        refine lv_aload_n hx hb dX2_solution_89 rfl (lv_at hl 0 rfl) ?_
        obtain ⟨fs19, x19_, e19, f19, hF⟩ := gQ_s hF
        refine h_get (C := RX2) (T := TX2) (N := 11) hx hb hts in_X2 hown hGr hr e19 (by decide) rfl 0 (by decide) (hts _ q562) (fun _ h9 => h9) f19 dX2_solution_90 ?_
        refine lv_iconst (v := 0) hx hb dX2_solution_93 (by decide) ?_
        refine lv_aload_n hx hb dX2_solution_94 rfl (lv_at hl 2 rfl) ?_
        refine lv_iload hx hb dX2_solution_95 (lv_at hl 5 rfl) ?_
        obtain ⟨n20, f20, x20_, e20, g20, ex20, hF⟩ := aQ_s hF
        refine h_aald hx hb hGr hr (by decide) e20 g20 dX2_solution_97 (v := .ref x20_) (by rw [ex20]; rfl) ?_
        refine lv_iload_n hx hb dX2_solution_98 rfl (lv_at hl 1 rfl) ?_
        obtain ⟨n21, f21, e21, g21, hF⟩ := aI_s hF
        obtain ⟨x21_, ex21⟩ : ∃ z, z = f21 (x1).toNatClampNeg := ⟨_, rfl⟩
        rw [← ex21] at hF
        refine h_iald hx hb hGr hr 0 rfl e21 g21 dX2_solution_99 ?_
        rw [← ex21]
        obtain ⟨fc22, ec22, hF⟩ := gC_s hF
        obtain ⟨r22, u22, e22, hF⟩ := bnd_s hF
        have mm22 : hle u22 out.2 := (show Mo u22 _ from mo_gC (mo_bnd (moX2_vector u22 b0 x5) hle_rf (fun r23 u23 m23 => mo_gC (mo_bnd (moX3_without n u23 x18_ b4 r22 r23) m23 (fun r24 u24 m24 => mo_tr m24 (ml1 u24 b0 x1 b2 b3 r24 (x5 + 1))))))) _ hF
        obtain ⟨mc22, ms22, hmc22, hms22⟩ := up_of (moX3_less h x19_ (0 : Int32) x21_ _ e22)
        replace hc := cst_call hc hmc22 hms22
        refine h_calli (va_runV (As := [.int 0, .int x21_]) (rest := [.ref b4, .ref x18_]) ⟨hx, hb, hml, hown, hts⟩ (mgX3_less l D A h x19_ (0 : Int32) x21_ _ e22 mc22 ms22 hmc22 hms22) (cwV 2 hts (lw_V q1183 q1184 q1185 q103 q1186) rfl rfl rfl (by decide +kernel) ⟨Nat.le_of_ble_eq_true rfl, Nat.le_of_ble_eq_true rfl⟩) (h_preV hGr hr hS ec22 (by decide) (q := (RX3, TX3, 2)) rfl _) rfl rfl hl.1 rfl (lv_room (Nat.le_of_ble_eq_true rfl)) dX2_solution_100 ⟨(bud hc mm22 hmc hms).1, (bud hc mm22 hmc hms).2⟩) hS (fun rr uu H locs hw hr hS => ?_)
        obtain rfl : u22 = uu := (congrArg Prod.snd hw).symm
        obtain rfl : r22 = rr := (congrArg Prod.fst hw).symm
        refine lv_aload_n hx hb dX2_solution_103 rfl (lv_at hl 0 rfl) ?_
        refine lv_iload hx hb dX2_solution_104 (lv_at hl 5 rfl) ?_
        obtain ⟨fc23, ec23, hF⟩ := gC_s hF
        obtain ⟨r23, u23, e23, hF⟩ := bnd_s hF
        have mm23 : hle u23 out.2 := (show Mo u23 _ from mo_gC (mo_bnd (moX3_without n u23 x18_ b4 r22 r23) hle_rf (fun r24 u24 m24 => mo_tr m24 (ml1 u24 b0 x1 b2 b3 r24 (x5 + 1))))) _ hF
        obtain ⟨mc23, ms23, hmc23, hms23⟩ := up_of (moX2_vector u22 b0 x5 _ e23)
        replace hc := cst_call hc hmc23 hms23
        refine h_callr (va_runV (As := [.int x5]) (rest := [.int r22, .ref b4, .ref x18_]) ⟨hx, hb, hml, hown, hts⟩ (mgX2_vector l D A u22 b0 x5 _ e23 mc23 ms23 hmc23 hms23) (cwV 1 hts (lw_V q1013 q1014 q1015 q102 q1016) rfl rfl rfl (by decide +kernel) ⟨Nat.le_of_ble_eq_true rfl, Nat.le_of_ble_eq_true rfl⟩) (h_preV hGr hr hS ec23 (by decide) (q := (RX2, TX2, 11)) rfl _) rfl rfl hl.1 rfl (lv_room (Nat.le_of_ble_eq_true rfl)) dX2_solution_106 ⟨(bud hc mm23 hmc hms).1, (bud hc mm23 hmc hms).2⟩) hS (fun rr uu H locs hw hr hS => ?_)
        obtain rfl : u23 = uu := (congrArg Prod.snd hw).symm
        obtain rfl : r23 = rr := (congrArg Prod.fst hw).symm
        obtain ⟨fc24, ec24, hF⟩ := gC_s hF
        obtain ⟨r24, u24, e24, hF⟩ := bnd_s hF
        have mm24 : hle u24 out.2 := (show Mo u24 _ from mo_tr hle_rf (ml1 u24 b0 x1 b2 b3 r24 (x5 + 1))) _ hF
        obtain ⟨mc24, ms24, hmc24, hms24⟩ := up_of (moX3_without n u23 x18_ b4 r22 r23 _ e24)
        replace hc := cst_call hc hmc24 hms24
        refine h_callr (va_runV (As := [.ref b4, .int r22, .ref r23]) (rest := []) ⟨hx, hb, hml, hown, hts⟩ (mgX3_without l D A u23 n x18_ b4 r22 r23 _ e24 mc24 ms24 hmc24 hms24) (cwV 3 hts (lw_V q1033 q1034 q1035 q103 q1036) rfl rfl rfl (by decide +kernel) ⟨Nat.le_of_ble_eq_true rfl, Nat.le_of_ble_eq_true rfl⟩) (h_preV hGr hr hS ec24 (by decide) (q := (RX3, TX3, 2)) rfl _) rfl rfl hl.1 rfl (lv_room (Nat.le_of_ble_eq_true rfl)) dX2_solution_109 ⟨(bud hc mm24 hmc hms).1, (bud hc mm24 hmc hms).2⟩) hS (fun rr uu H locs hw hr hS => ?_)
        obtain rfl : u24 = uu := (congrArg Prod.snd hw).symm
        obtain rfl : r24 = rr := (congrArg Prod.fst hw).symm
        refine lv_astore (lv' := [(4, .ref r24), (0, .ref b0), (1, .int x1), (2, .ref b2), (3, .ref b3), (5, .int x5)]) hx hb dX2_solution_112 hl (by decide) rfl (fun ls hl => ?_)
        refine lv_iinc (v := (x5 + 1)) (lv' := [(5, .int (x5 + 1)), (4, .ref r24), (0, .ref b0), (1, .int x1), (2, .ref b2), (3, .ref b3)]) hx hb dX2_solution_114 hl (k := 5) rfl rfl (by decide) rfl (fun ls hl => ?_)
        refine lv_goto (tgt := 77) hx hb dX2_solution_117 (by decide) ?_
        exact lp1 u24 b0 x1 b2 b3 r24 (x5 + 1) hF _ _ _ _ hc hr hS ls (lv_sub hl [2, 3, 4, 5, 1, 0] rfl)
  have lp1 := loop n
  have ml1 := moX2_solution_r n
  have hc : cst h0 0 0 h := by rw [eh0]; exact cst_0
  unfold GX2_solution GX2_solution_0 at hF
  refine lv_aload_n hx hb dX2_solution_0 rfl (lv_at hl 0 rfl) ?_
  obtain ⟨fs1, x1_, e1, f1, hF⟩ := gQ_s hF
  refine h_get (C := RX2) (T := TX2) (N := 11) hx hb hts in_X2 hown hGr hr e1 (by decide) rfl 8 (by decide) (hts _ q584) (fun _ h9 => h9) f1 dX2_solution_1 ?_
  refine lv_iconst (v := 0) hx hb dX2_solution_4 (by decide) ?_
  obtain ⟨fc2, ec2, hF⟩ := gC_s hF
  obtain ⟨r2, u2, e2, hF⟩ := bnd_s hF
  have mm2 : hle u2 out.2 := (show Mo u2 _ from mo_gC (mo_gC (mo_bnd (moX8_many u2 r2) hle_rf (fun r4 u4 m4 => mo_gQ (fun x5_ => mo_nW m4 (fun a6_ h6 m6 => mo_gC (mo_bnd (moX3_table n h6 x5_ r4 (r4 + 1) a6_) m6 (fun r7 u7 m7 => mo_nW m7 (fun a8_ h8 m8 => mo_gQ (fun x9_ => mo_bnd (moX10_init_2 n h8 a8_ x9_ r4 r7) m8 (fun r10 u10 m10 => mo_gI (fun x11_ => mo_ite (mo_ret m10) (mo_nW m10 (fun a13_ h13 m13 => mo_gI (fun x14_ => mo_nA m13 (fun a15_ h15 m15 => mo_bnd (moX4_init h15 a13_ a15_) m15 (fun r16 u16 m16 => mo_tr m16 (ml1 u16 a0 r4 r7 a8_ a13_ (0 : Int32))))))))))))))))))) _ hF
  obtain ⟨mc2, ms2, hmc2, hms2⟩ := up_of (moJ2_get h x1_ (0 : Int32) _ e2)
  replace hc := cst_call hc hmc2 hms2
  refine h_callFr (va_runF (hGr.K.1 10 _ rfl).2 (As := [.int 0]) (rest := []) ⟨hx, hb, hml, hown, hts⟩ (mgJ2_get l D A h x1_ (0 : Int32) _ e2 mc2 ms2 hmc2 hms2) (va_cwF 1 hts (lw_app (lw_fi q931 q934 q936 q106) (lw_meth q938)) rfl rfl rfl (fw_7 hGr) (by decide +kernel) ⟨Nat.le_of_ble_eq_true rfl, Nat.le_of_ble_eq_true rfl⟩) (h_preV hGr hr hS ec2 (by decide) (q := (RJ2, TJ2, 3)) rfl _) rfl rfl hl.1 rfl (lv_room (Nat.le_of_ble_eq_true rfl)) dX2_solution_5 ⟨(bud hc mm2 hmc hms).1, (bud hc mm2 hmc hms).2⟩) hS (fun rr uu H locs hw hr hS => ?_)
  obtain rfl : u2 = uu := (congrArg Prod.snd hw).symm
  obtain rfl : r2 = rr := (congrArg Prod.fst hw).symm
  obtain ⟨fs3, e3, hF⟩ := gC_s hF
  refine h_cast hx hb hown (hts _ q869) hGr hr e3 (by decide) (T := TX8) (N := 3) rfl dX2_solution_10 ?_
  obtain ⟨fc4, ec4, hF⟩ := gC_s hF
  obtain ⟨r4, u4, e4, hF⟩ := bnd_s hF
  have mm4 : hle u4 out.2 := (show Mo u4 _ from mo_gQ (fun x5_ => mo_nW hle_rf (fun a6_ h6 m6 => mo_gC (mo_bnd (moX3_table n h6 x5_ r4 (r4 + 1) a6_) m6 (fun r7 u7 m7 => mo_nW m7 (fun a8_ h8 m8 => mo_gQ (fun x9_ => mo_bnd (moX10_init_2 n h8 a8_ x9_ r4 r7) m8 (fun r10 u10 m10 => mo_gI (fun x11_ => mo_ite (mo_ret m10) (mo_nW m10 (fun a13_ h13 m13 => mo_gI (fun x14_ => mo_nA m13 (fun a15_ h15 m15 => mo_bnd (moX4_init h15 a13_ a15_) m15 (fun r16 u16 m16 => mo_tr m16 (ml1 u16 a0 r4 r7 a8_ a13_ (0 : Int32)))))))))))))))) _ hF
  obtain ⟨mc4, ms4, hmc4, hms4⟩ := up_of (moX8_many u2 r2 _ e4)
  replace hc := cst_call hc hmc4 hms4
  refine h_calli (va_runV (As := []) (rest := []) ⟨hx, hb, hml, hown, hts⟩ (mgX8_many l D A u2 r2 _ e4 mc4 ms4 hmc4 hms4) (cwV 0 hts (lw_V q1047 q1048 q1049 q139 q1050) rfl rfl rfl (by decide +kernel) ⟨Nat.le_of_ble_eq_true rfl, Nat.le_of_ble_eq_true rfl⟩) (h_preV hGr hr hS ec4 (by decide) (q := (RX8, TX8, 3)) rfl _) rfl rfl hl.1 rfl (lv_room (Nat.le_of_ble_eq_true rfl)) dX2_solution_13 ⟨(bud hc mm4 hmc hms).1, (bud hc mm4 hmc hms).2⟩) hS (fun rr uu H locs hw hr hS => ?_)
  obtain rfl : u4 = uu := (congrArg Prod.snd hw).symm
  obtain rfl : r4 = rr := (congrArg Prod.fst hw).symm
  refine lv_istore_n (lv' := [(1, .int r4), (0, .ref a0)]) hx hb dX2_solution_16 rfl hl (by decide) rfl (fun ls hl => ?_)
  refine lv_aload_n hx hb dX2_solution_17 rfl (lv_at hl 1 rfl) ?_
  obtain ⟨fs5, x5_, e5, f5, hF⟩ := gQ_s hF
  refine h_get (C := RX2) (T := TX2) (N := 11) hx hb hts in_X2 hown hGr hr e5 (by decide) rfl 0 (by decide) (hts _ q562) (fun _ h9 => h9) f5 dX2_solution_18 ?_
  refine lv_iload_n hx hb dX2_solution_21 rfl (lv_at hl 0 rfl) ?_
  refine lv_iload_n hx hb dX2_solution_22 rfl (lv_at hl 0 rfl) ?_
  refine lv_iconst (v := 1) hx hb dX2_solution_23 (by decide) ?_
  refine lv_iadd hx hb dX2_solution_24 ?_
  refine lv_aload_n hx hb dX2_solution_25 rfl (lv_at hl 1 rfl) ?_
  refine lv_iload_n hx hb dX2_solution_26 rfl (lv_at hl 0 rfl) ?_
  obtain ⟨a6_, h6, ea6, eh6, hF⟩ := nW_s hF
  have mm6 : hle h6 out.2 := (show Mo h6 _ from mo_gC (mo_bnd (moX3_table n h6 x5_ r4 (r4 + 1) a6_) hle_rf (fun r7 u7 m7 => mo_nW m7 (fun a8_ h8 m8 => mo_gQ (fun x9_ => mo_bnd (moX10_init_2 n h8 a8_ x9_ r4 r7) m8 (fun r10 u10 m10 => mo_gI (fun x11_ => mo_ite (mo_ret m10) (mo_nW m10 (fun a13_ h13 m13 => mo_gI (fun x14_ => mo_nA m13 (fun a15_ h15 m15 => mo_bnd (moX4_init h15 a13_ a15_) m15 (fun r16 u16 m16 => mo_tr m16 (ml1 u16 a0 r4 r7 a8_ a13_ (0 : Int32)))))))))))))) _ hF
  replace hc := cst_new hc eh6
  refine h_indy (k := 3) (b := a0) (n1 := r4) (n2 := (0 : Int32)) (n3 := (0 : Int32)) (rest := [.int (r4 + 1), .int r4, .ref x5_]) (by decide) hx hb (by rw [hml]; exact hl.1.symm) hGr (hts _ q2551) B.named hr hS dX2_solution_27 rfl (Nat.le_of_ble_eq_true rfl) (bud hc mm6 hmc hms).1 (bud hc mm6 hmc hms).2 (fun H hr9 hS => ?_)
  have hr : hR D A h6 H := by rw [eh6]; exact hr9
  clear hr9
  rw [← ea6]
  obtain ⟨fc7, ec7, hF⟩ := gC_s hF
  obtain ⟨r7, u7, e7, hF⟩ := bnd_s hF
  have mm7 : hle u7 out.2 := (show Mo u7 _ from mo_nW hle_rf (fun a8_ h8 m8 => mo_gQ (fun x9_ => mo_bnd (moX10_init_2 n h8 a8_ x9_ r4 r7) m8 (fun r10 u10 m10 => mo_gI (fun x11_ => mo_ite (mo_ret m10) (mo_nW m10 (fun a13_ h13 m13 => mo_gI (fun x14_ => mo_nA m13 (fun a15_ h15 m15 => mo_bnd (moX4_init h15 a13_ a15_) m15 (fun r16 u16 m16 => mo_tr m16 (ml1 u16 a0 r4 r7 a8_ a13_ (0 : Int32)))))))))))) _ hF
  obtain ⟨mc7, ms7, hmc7, hms7⟩ := up_of (moX3_table n h6 x5_ r4 (r4 + 1) a6_ _ e7)
  replace hc := cst_call hc hmc7 hms7
  refine h_callr (va_runV (As := [.int r4, .int (r4 + 1), .ref a6_]) (rest := []) ⟨hx, hb, hml, hown, hts⟩ (mgX3_table l D A h6 n x5_ r4 (r4 + 1) a6_ _ e7 mc7 ms7 hmc7 hms7) (cwV 3 hts (lw_V q1145 q1146 q1147 q103 q1148) rfl rfl rfl (by decide +kernel) ⟨Nat.le_of_ble_eq_true rfl, Nat.le_of_ble_eq_true rfl⟩) (h_preV hGr hr hS ec7 (by decide) (q := (RX3, TX3, 2)) rfl _) rfl rfl hl.1 rfl (lv_room (Nat.le_of_ble_eq_true rfl)) dX2_solution_32 ⟨(bud hc mm7 hmc hms).1, (bud hc mm7 hmc hms).2⟩) hS (fun rr uu H locs hw hr hS => ?_)
  obtain rfl : u7 = uu := (congrArg Prod.snd hw).symm
  obtain rfl : r7 = rr := (congrArg Prod.fst hw).symm
  refine lv_astore_n (lv' := [(2, .ref r7), (1, .int r4), (0, .ref a0)]) hx hb dX2_solution_35 rfl hl (by decide) rfl (fun ls hl => ?_)
  obtain ⟨a8_, h8, ea8, eh8, hF⟩ := nW_s hF
  have mm8 : hle h8 out.2 := (show Mo h8 _ from mo_gQ (fun x9_ => mo_bnd (moX10_init_2 n h8 a8_ x9_ r4 r7) hle_rf (fun r10 u10 m10 => mo_gI (fun x11_ => mo_ite (mo_ret m10) (mo_nW m10 (fun a13_ h13 m13 => mo_gI (fun x14_ => mo_nA m13 (fun a15_ h15 m15 => mo_bnd (moX4_init h15 a13_ a15_) m15 (fun r16 u16 m16 => mo_tr m16 (ml1 u16 a0 r4 r7 a8_ a13_ (0 : Int32))))))))))) _ hF
  replace hc := cst_new hc eh8
  refine h_new (C := RX10) (T := TX10) (N := 4) hx hb hts in_X10 tyX10 tyX10_ok hown (hts _ q1088) (hts _ q1089) (hts _ q141) hGr hr hS (ci := 9) (by decide) rfl (fs := [.null, .null, .int 0, .int 0]) (fun j hj => by match j, hj with | 0, _ => rfl | 1, _ => rfl | 2, _ => rfl | 3, _ => rfl | j + 4, hj => omega) (bud hc mm8 hmc hms).1 (bud hc mm8 hmc hms).2 dX2_solution_36 (fun H hr hS => ?_)
  rw [← eh8] at hr
  rw [← ea8]
  refine lv_dup hx hb dX2_solution_39 rfl ?_
  refine lv_aload_n hx hb dX2_solution_40 rfl (lv_at hl 2 rfl) ?_
  obtain ⟨fs9, x9_, e9, f9, hF⟩ := gQ_s hF
  refine h_get (C := RX2) (T := TX2) (N := 11) hx hb hts in_X2 hown hGr hr e9 (by decide) rfl 0 (by decide) (hts _ q562) (fun _ h9 => h9) f9 dX2_solution_41 ?_
  refine lv_iload_n hx hb dX2_solution_44 rfl (lv_at hl 1 rfl) ?_
  refine lv_aload_n hx hb dX2_solution_45 rfl (lv_at hl 0 rfl) ?_
  obtain ⟨r10, u10, e10, hF⟩ := bnd_s hF
  have mm10 : hle u10 out.2 := (show Mo u10 _ from mo_gI (fun x11_ => mo_ite (mo_ret hle_rf) (mo_nW hle_rf (fun a13_ h13 m13 => mo_gI (fun x14_ => mo_nA m13 (fun a15_ h15 m15 => mo_bnd (moX4_init h15 a13_ a15_) m15 (fun r16 u16 m16 => mo_tr m16 (ml1 u16 a0 r4 r7 a8_ a13_ (0 : Int32))))))))) _ hF
  obtain ⟨mc10, ms10, hmc10, hms10⟩ := up_of (moX10_init_2 n h8 a8_ x9_ r4 r7 _ e10)
  replace hc := cst_call hc hmc10 hms10
  refine h_callv (va_runI (As := [.ref x9_, .int r4, .ref r7]) (rest := [.ref a8_]) ⟨hx, hb, hml, hown, hts⟩ (mgX10_init_2 l D A h8 n a8_ x9_ r4 r7 _ e10 mc10 ms10 hmc10 hms10) (cwI 3 hts (lw_meth q1095) rfl rfl rfl (hts _ q141) (hts _ q1905) (hts _ q1094) rfl (by decide +kernel) ⟨Nat.le_of_ble_eq_true rfl, Nat.le_of_ble_eq_true rfl⟩) (h_preS hGr hr hS _) rfl rfl hl.1 rfl (lv_room (Nat.le_of_ble_eq_true rfl)) dX2_solution_46 ⟨(bud hc mm10 hmc hms).1, (bud hc mm10 hmc hms).2⟩) hS (fun uu H locs hw hr hS => ?_)
  obtain rfl : u10 = uu := (congrArg Prod.snd hw).symm
  refine lv_astore_n (lv' := [(3, .ref a8_), (2, .ref r7), (1, .int r4), (0, .ref a0)]) hx hb dX2_solution_49 rfl hl (by decide) rfl (fun ls hl => ?_)
  refine lv_aload_n hx hb dX2_solution_50 rfl (lv_at hl 0 rfl) ?_
  obtain ⟨fs11, x11_, e11, f11, hF⟩ := gI_s hF
  refine h_getN (C := RX10) (T := TX10) (N := 4) hx hb hts in_X10 hown hGr hr e11 (by decide) rfl 3 (by decide) (va_Nw.use rfl (hGr.nw q1115 rfl)) (fun _ h9 => h9) f11 dX2_solution_51 ?_
  refine lv_if_ne (tgt := 59) hx hb dX2_solution_54 (by decide) (fun c12 => ?_) (fun c12 => ?_)
  · replace hF := it_f c12 hF
    obtain ⟨a13_, h13, ea13, eh13, hF⟩ := nW_s hF
    have mm13 : hle h13 out.2 := (show Mo h13 _ from mo_gI (fun x14_ => mo_nA hle_rf (fun a15_ h15 m15 => mo_bnd (moX4_init h15 a13_ a15_) m15 (fun r16 u16 m16 => mo_tr m16 (ml1 u16 a0 r4 r7 a8_ a13_ (0 : Int32)))))) _ hF
    replace hc := cst_new hc eh13
    refine h_new (C := RX4) (T := TX4) (N := 1) hx hb hts in_X4 tyX4 tyX4_ok hown (hts _ q549) (hts _ q550) (hts _ q123) hGr hr hS (ci := 4) (by decide) rfl (fs := [.null]) (fun j hj => by match j, hj with | 0, _ => rfl | j + 1, hj => omega) (bud hc mm13 hmc hms).1 (bud hc mm13 hmc hms).2 dX2_solution_59 (fun H hr hS => ?_)
    rw [← eh13] at hr
    rw [← ea13]
    refine lv_dup hx hb dX2_solution_62 rfl ?_
    refine lv_aload_n hx hb dX2_solution_63 rfl (lv_at hl 3 rfl) ?_
    obtain ⟨fs14, x14_, e14, f14, hF⟩ := gI_s hF
    refine h_get (C := RX2) (T := TX2) (N := 11) hx hb hts in_X2 hown hGr hr e14 (by decide) rfl 1 (by decide) (hts _ q565) (fun _ h9 => h9) f14 dX2_solution_64 ?_
    obtain ⟨a15_, h15, ea15, eh15, g15, hF⟩ := nA_s hF
    have mm15 : hle h15 out.2 := (show Mo h15 _ from mo_bnd (moX4_init h15 a13_ a15_) hle_rf (fun r16 u16 m16 => mo_tr m16 (ml1 u16 a0 r4 r7 a8_ a13_ (0 : Int32)))) _ hF
    replace hc := cst_new hc eh15
    refine h_newI hx hb (hts _ q177) hGr hr hS g15 (bud hc mm15 hmc hms).1 (bud hc mm15 hmc hms).2 dX2_solution_67 (fun H hr hS => ?_)
    rw [← eh15] at hr
    rw [← ea15]
    obtain ⟨r16, u16, e16, hF⟩ := bnd_s hF
    have mm16 : hle u16 out.2 := (show Mo u16 _ from mo_tr hle_rf (ml1 u16 a0 r4 r7 a8_ a13_ (0 : Int32))) _ hF
    obtain ⟨mc16, ms16, hmc16, hms16⟩ := up_of (moX4_init h15 a13_ a15_ _ e16)
    replace hc := cst_call hc hmc16 hms16
    refine h_callv (va_runI (As := [.ref a15_]) (rest := [.ref a13_]) ⟨hx, hb, hml, hown, hts⟩ (mgX4_init l D A h15 a13_ a15_ _ e16 mc16 ms16 hmc16 hms16) (cwI 1 hts (lw_meth q553) rfl rfl rfl (hts _ q123) (hts _ q551) (hts _ q552) rfl (by decide +kernel) ⟨Nat.le_of_ble_eq_true rfl, Nat.le_of_ble_eq_true rfl⟩) (h_preS hGr hr hS _) rfl rfl hl.1 rfl (lv_room (Nat.le_of_ble_eq_true rfl)) dX2_solution_69 ⟨(bud hc mm16 hmc hms).1, (bud hc mm16 hmc hms).2⟩) hS (fun uu H locs hw hr hS => ?_)
    obtain rfl : u16 = uu := (congrArg Prod.snd hw).symm
    refine lv_astore (lv' := [(4, .ref a13_), (3, .ref a8_), (2, .ref r7), (1, .int r4), (0, .ref a0)]) hx hb dX2_solution_72 hl (by decide) rfl (fun ls hl => ?_)
    refine lv_iconst (v := 0) hx hb dX2_solution_74 (by decide) ?_
    refine lv_istore (lv' := [(5, .int 0), (4, .ref a13_), (3, .ref a8_), (2, .ref r7), (1, .int r4), (0, .ref a0)]) hx hb dX2_solution_75 hl (by decide) rfl (fun ls hl => ?_)
    exact lp1 u16 a0 r4 r7 a8_ a13_ (0 : Int32) hF _ _ _ _ hc hr hS ls (lv_sub hl [5, 4, 3, 2, 1, 0] rfl)
  · replace hF := it_t c12 hF
    refine lv_null hx hb dX2_solution_57 ?_
    have bz := bud_r hc hF hmc hms
    refine W.widen (k := mc) (n := ms) bz.1 bz.2 ?_
    exact W.aret (v := va_rf (none)) hx hb hret (Or.inl ⟨_, rfl⟩) (va_rf_or _) (fun t ht hWm => ⟨⟨(none), u10, rfl, Option.some.inj hF, h_end hGr hr hS ht hWm⟩, hS.F ht⟩) hS.2.2 dX2_solution_58
