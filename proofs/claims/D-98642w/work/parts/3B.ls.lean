/-! the law's start: both constructors, the array 'out', then the loop -/
set_option maxRecDepth 100000
theorem cfX1 : cls_dv 1 24 := dv_of (by unfold cls_nf; decide +kernel) (by decide)
theorem cfX10 : cls_dv 0 81 := dv_of (by unfold cls_nf; decide +kernel) (by decide)
/-- other counters -/
theorem Inv.cnt {F : HP} {I J : Nat → Nat → Int32} {M : Nat → Nat → Int64} (n : Nat × Nat) (q : Inv F I J M) (h54 : 54 ≤ n.1) (hs : ∀ x, n.1 ≤ x → (gT F x).1 = 0) : Inv (n, F.2) I J M := by
  have eT : ∀ x, gT (cV (n, F.2)) x = gT (cV F) x := fun x => rfl
  have eR : ∀ x, gR (cV (n, F.2)) x = gR (cV F) x := fun x => rfl
  have sh : Shp (n, F.2) := ⟨h54, hs⟩
  obtain ⟨c, K, A, w, S, al, nu, D, N, sn, kv, kn, U, im, X, tp, tb, p⟩ := q.p
  generalize (n, F.2) = F' at eT eR sh ⊢
  exact (p.gro (fun x t => eT x) (fun x t _ => eR x) sh (fun x t _ _ => Eq.refl _) (fun k _ _ => Eq.refl _) p.1.1.2.1.1 (fun x _ => Eq.refl _) (Eq.refl _) (Eq.refl _) (fun k _ => Eq.refl _) p.2.2.2.2.2.1).inv
theorem start_c {F : HP} (n : Nat) (FT : ∀ x : Fin 54, gT F x.val = cT x.val) (FR : ∀ x : Fin 54, ∀ k : Fin 24, cRs x.val k.val = none ∨ gR F x.val k.val = cRs x.val k.val) {D : va_G} {z : Nat} {H2 H5 : Heap} (w : wD (fun _ => True) D z F H2) (hk : ∀ a, a < 54 → H5[z + a]? = H2[z + a]?) (hz : H5.size = z + 97) : wD O1 D z (cV ((97, n), (cutT F).2)) H5 := by
  have eT : ∀ a, gT (cV ((97, n), (cutT F).2)) a = if a < 54 then gT F a else (0, 0) := fun a => cut_T FT a
  have eR : ∀ a, gR (cV ((97, n), (cutT F).2)) a = gR F a := fun a => funext fun k => cut_R FR a k
  refine ⟨fun _ => ⟨hz, fun a ha => Or.inr ha⟩, fun a ha => ?_, fun a => ?_⟩
  · by_cases h : a < 54
    · exact Or.inl h
    · rw [eT, if_neg h] at ha
      exact absurd rfl ha
  · rw [eT, eR]
    by_cases h : a < 54
    · rw [if_pos h]
      exact (w.2.2 a).kept (hk a h)
    · rw [if_neg h]
      exact Or.inl rfl
theorem mT_k2 : ∀ a : Fin 42, a.val = 0 ∨ (100 ≤ (mT a.val).1 ∧ (mT a.val).1 < 104) := by decide +kernel
theorem mT_o {a : Nat} (h : 42 ≤ a) : mT a = (0, 0) := by
  unfold mT
  split <;> first | rfl | omega
theorem start_m {G : HP} (GT : (gT G 0).1 = 1 ∧ ∀ x : Fin 42, x.val = 0 ∨ gT G x.val = mT x.val) (GR : ∀ k : Fin 81, gR G 0 k.val = mR0 k.val) {D : va_G} {z : Nat} {H4 H5 : Heap} (w : wD (fun _ => True) D z G H4) (hk : ∀ a, a < 42 → H5[z + a]? = H4[z + a]?) : wD O2 D z (mV G) H5 := by
  refine ⟨fun h => absurd rfl h, fun a ha => ?_, fun a => ?_⟩
  · by_cases h : a < 42
    · exact h
    · have ha : (mT a).1 ≠ 0 := ha
      rw [mT_o (by omega)] at ha
      exact absurd rfl ha
  · show cOK D z H5 (mT a) a (gI G a) (gL G a) (mR a)
    by_cases h : a < 42
    · by_cases h0 : a = 0
      · subst h0
        obtain ⟨c1, c0, -⟩ := ckX10
        obtain ⟨W0, e1, e2⟩ := (w.2.2 0).obj (ci := 0) GT.1 c0 c1
        refine Or.inr (Or.inl ⟨by decide, _, fun j => sv z (ft 0) (gI G 0) (gL G 0) (mR 0) j, c1, fun j _ => rfl, (e2.kept (hk 0 h)).to (fun k hk81 => ?_)⟩)
        have h3 : ft 0 k ≠ 3 := by
          unfold ft
          rw [if_neg (by decide)]
          unfold tcode
          split <;> decide
        rw [e1 k h3]
        have hk81 : k < 81 := hk81
        unfold sv
        rw [show gR G 0 k = mR 0 k from GR ⟨k, hk81⟩]
      · have e := (GT.2 ⟨a, h⟩).resolve_left h0
        have e : gT G a = mT a := e
        obtain ⟨k1, k2⟩ := (mT_k2 ⟨a, h⟩).resolve_left h0
        have k1 : 100 ≤ (mT a).1 := k1
        have k2 : (mT a).1 < 104 := k2
        have hc := (w.2.2 a).arr (t := (mT a).1) (n := (mT a).2) e k1
        refine Or.inr (Or.inr ⟨k1, ?_⟩)
        rw [hk a h, hc]
        congr 2
        funext j
        unfold sv at_
        by_cases h101 : (mT a).1 = 101
        · simp [h101]
        · have k3 : ¬ 104 ≤ (mT a).1 := by omega
          simp [h101, k3]
    · rw [mT_o (by omega)]
      exact Or.inl rfl
section LSt
variable {p : Program} {l : Launch} {e : Env} {s : State} {m : MethodId} {below : List Frame} {meth : Method} {c : Code} {b L : Nat} {xs : Nat → Int32} {D : va_G}
theorem law_ctor {ci index idx2 pc N f1 l1 mL cells slots : Nat} {C : String} {U : u_T} {y : MethodName} {cd : ByteArray} {h1 : HP} {H : Heap} {locs : List Loc} {la : Array Slot} (X : LX p l s m meth c b L xs D) (hc : cls_ok ci C U N) (hdv : cls_dv ci N) (q1 : Cond.classLink R_law index C ∈ lw_all) (q2 : Cond.instantiable C N ∈ lw_all) (q3 : Cond.initialized C ∈ lw_all) (hM : Cn iV y (ws_ y cd mL none) f1 l1 (fun z => [.ref (z + 0)]) (sA h00 (ci + 1, 0) N) (fun z => eV z ()) h1) (hy : y_ok y 0) (hi : y.name = "<init>") (q4 : Cond.methodLink R_law idx2 y ∈ lw_all) (q5 : Cond.instanceMethod y ∈ lw_all) (q6 : Cond.initialized y.cls ∈ lw_all) (q7 : Cond.code y cd mL none ∈ lw_all) (hr : f1 + 1 ≤ 8192 ∧ 8 + (mL + 11) + l1 ≤ 104096)
    (d0 : decode code pc = .ok (.new index, 3)) (d1 : decode code (pc + 3) = .ok (.dup, 1)) (d2 : decode code (pc + 4) = .ok (.invokespecial idx2, 3)) (hla : la.size = 7) (hS : va_S (A0 s) s.heap H locs) (g1 : cells + gN h1 ≤ 603072) (g2 : slots + gS h1 ≤ 7190634)
    (kk : ∀ (H1 : Heap) (locs1 : List Loc), wD (fun _ => True) D H.size h1 H1 → H1.size = H.size + gN h1 → (∀ q : Nat, q < H.size → H1[q]? = H[q]?) → va_S (A0 s) s.heap H1 locs1 → LW p l e s m below meth c b H1 locs1 (cells + gN h1) (slots + gS h1) (F0 m (pc + 7) la [.ref H.size])) : LW p l e s m below meth c b H locs cells slots (F0 m pc la []) := by
  obtain ⟨⟨hx, hb, hr', hml, hown, hts, hX, hbl, hlocks, hgv⟩, hfl, hT, -⟩ := X
  have hta : ∀ w ∈ lw_all, w.before #[Value.ref b] s = true := fun w h => hts w (lw_all_tbl h)
  obtain ⟨⟨m1, m2⟩, hMet⟩ := hM
  have m1 : 0 + 1 ≤ gN h1 := m1
  have m2 : 0 + N ≤ gS h1 := m2
  obtain ⟨c1, c0, c2, c3, c4⟩ := hc
  have hKn := hT.1.1 ci _ c1
  refine W.newcK hx hb hown (hta _ q1) (hta _ q2) (hta _ q3) rfl d0 (by show cells + 1 ≤ 603072; omega) (by show slots + N ≤ 7190634; omega) hKn.2.1 (h := H.size) rfl fun H1 kC hkC f1' f2 f3 => ?_
  have hcell : cOK D H.size H1 (ci + 1, 0) 0 (fun _ => 0) (fun _ => 0) (fun _ => none) := by
    refine Or.inr (Or.inl ⟨c0, _, _, c1, fun j _ => rfl, ?_⟩)
    refine (u_born (jty ci) hta c2 hKn hkC f1' c3).to (fun k hk => ?_)
    show defaultValue (jty ci k) = sv _ (ft ci) _ _ _ k
    exact hdv _ k hk
  have hW1 : wD (fun _ => True) D H.size (iV (sA h00 (ci + 1, 0) N)) H1 := by
    refine ⟨fun _ => ⟨f2, fun _ _ => trivial⟩, fun _ _ => trivial, fun a => ?_⟩
    by_cases ha : a = 0
    · subst ha
      exact hcell
    · refine Or.inl ?_
      show (if a = 0 then (ci + 1, 0) else (0, 0)).1 = 0
      rw [if_neg ha]
  have hS1 : va_S (A0 s) s.heap H1 locs := ⟨by rw [f2]; exact Nat.le_succ_of_le hS.1, fun q w1 w2 => by rw [f3 q (Nat.lt_of_lt_of_le w1 hS.1)]; exact hS.2.1 q w1 w2, hS.2.2⟩
  have hAz : ∀ q, aA H.size (fun _ => True) q → A0 s q := by
    rintro q ⟨a, rfl, -⟩
    exact Nat.le_trans hS.1 (Nat.le_add_right _ _)
  have hT1 : jT D (aA H.size (fun _ => True)) s s.heap := hT.narrow hAz
  refine lv_dup hx hb d1 rfl ?_
  have run := va_runI (p := p) (l := l) (e := e) (R := room_1) (s := s) (m := m) (args := #[Value.ref b]) (below := below) (meth := meth) (c := c) (H := H1) (locs := locs) (cells := cells + 1) (slots := slots + N) (As := []) (rest := [.ref H.size]) (b := H.size + 0) (g := F0 m (pc + 4) la [.ref H.size, .ref H.size]) (Ts := lw_all) ⟨hx, hb, hml, hown, hta⟩ (hMet l D H.size (fun _ => True) hfl) (cwI 0 hta (lw_meth q7) rfl rfl rfl (hta _ q6) (hta _ q4) (hta _ q5) hi hy.2 hr) ⟨Pcn.blind, fun U hU hw => ⟨rfl, by rw [hU]; exact hW1, by rw [hU]; exact (hT1.kept (fun a h1 _ => hS1.2.1 a h1 (A0_no a h1))).warm hw⟩⟩ rfl rfl hla rfl (by show 2 * 0 + 1 ≤ 8; decide) d2 ⟨by show cells + 1 + (gN h1 - (0 + 1)) ≤ 603072; omega, by show slots + N + (gS h1 - (0 + N)) ≤ 7190634; omega⟩
  refine law_ran run hAz hS1 fun H2 locs2 hW2 z1 z2 hk2 hS2 => ?_
  rw [show cells + 1 + (gN (iV h1) - gN (iV (sA h00 (ci + 1, 0) N))) = cells + gN h1 by show cells + 1 + (gN h1 - (0 + 1)) = _; omega, show slots + N + (gS (iV h1) - gS (iV (sA h00 (ci + 1, 0) N))) = slots + gS h1 by show slots + N + (gS h1 - (0 + N)) = _; omega]
  refine kk H2 locs2 hW2 (hW2.1 (by show gN h1 ≠ 0; omega)).1 (fun q hq => ?_) hS2
  rw [hk2 q (by omega) ?_, f3 q hq]
  rintro ⟨a, rfl, -⟩
  omega
/-- what the constructors leave, told of any two pictures -/
theorem made : ∃ F G : HP, icA_init (sA h00 (1 + 1, 0) 24) = some ((), F) ∧ ikX10_init (sA h00 (0 + 1, 0) 81) = some ((), G) ∧ gN F = 54 ∧ gS F ≤ 2000 ∧ gN G = 42 ∧ gS G ≤ 5000 ∧ (∀ x : Fin 54, gT F x.val = cT x.val) ∧ (∀ x : Fin 54, ∀ k : Fin 24, cRs x.val k.val = none ∨ gR F x.val k.val = cRs x.val k.val) ∧ ((gT G 0).1 = 1 ∧ ∀ x : Fin 42, x.val = 0 ∨ gT G x.val = mT x.val) ∧ (∀ k : Fin 81, gR G 0 k.val = mR0 k.val) ∧ Inv (cutT F) (gI F) (gI G) (gL G) := ⟨hF, hG, hF_e, hG_e, hF_N.1, hF_N.2, hG_N.1, hG_N.2, hF_T, hF_R, hG_T, hG_R, Inv0⟩
end LSt
theorem whole_start {p : Program} {e : Env} {s : State} {m : MethodId} {below : List Frame} {meth : Method} {c : Code} (l : Launch) (hflags : l.flags = flags0) {b L : Nat} {xs : Nat → Int32} (hL : L ≤ 384) (C0 : lw_At p s m meth c b L xs) : W p l e room_1 s m #[Value.ref b] below meth c s.heap [] 0 0 (lw_Z below #[Value.ref b] s) (entryFrame m ([Value.ref b] : List Value).toArray 7) := by
  obtain ⟨hx, hb, hr, hml, hown, hts, hX, hbl, hlocks, hgv⟩ := id C0
  have hs : ∀ w ∈ gfl, w.before #[Value.ref b] s = true := flat_of_before _ hgv
  obtain ⟨D, hT⟩ := law_jT hts hs
  have X : LX p l s m meth c b L xs D := ⟨C0, hflags, hT, va_Nc.of (g_in hs g_nc)⟩
  obtain ⟨F, G, eF, eG, FN, FS, GN, GS, FT, FR, GT, GR, inv⟩ := made
  have hS : va_S (A0 s) s.heap s.heap [] := va_S.rf
  have hl := lv_entry ([.ref b]) (n := 7) (Nat.le_of_ble_eq_true rfl)
  rw [lg_entry_eq]
  generalize (lg_sl ([.ref b]) ++ List.replicate (7 - (lg_sl ([.ref b])).length) Slot.unset).toArray = la at hl ⊢
  have hl : lv_has la 7 [(0, .ref b)] := hl
  refine law_ctor (h1 := F) (cells := 0) (slots := 0) X ckX1 cfX1 q182 q183 q140 (icA_init_t _ _ eF) ymX1_init rfl q184 q185 q140 q186 ⟨Nat.le_of_ble_eq_true rfl, Nat.le_of_ble_eq_true rfl⟩ dL_law_0 dL_law_3 dL_law_4 hl.1 hS (by omega) (by omega) fun H2 locs2 w2 z2 k2 hS2 => ?_
  rw [FN] at z2
  refine lv_astore_n (lv' := [(1, .ref s.heap.size), (0, .ref b)]) hx hb dL_law_7 rfl hl (by decide) rfl (fun la hl => ?_)
  refine law_ctor (h1 := G) (cells := 0 + gN F) (slots := 0 + gS F) X ckX10 cfX10 q1578 q1579 q154 (ikX10_init_t _ _ eG) ymX10_init rfl q1580 q1581 q154 q1582 ⟨Nat.le_of_ble_eq_true rfl, Nat.le_of_ble_eq_true rfl⟩ dL_law_8 dL_law_11 dL_law_12 hl.1 hS2 (by omega) (by omega) fun H4 locs4 w4 z4 k4 hS4 => ?_
  rw [GN] at z4
  rw [z2] at w4 z4 k4 ⊢
  refine lv_astore_n (lv' := [(2, .ref (s.heap.size + 54)), (1, .ref s.heap.size), (0, .ref b)]) hx hb dL_law_15 rfl hl (by decide) rfl (fun la hl => ?_)
  refine lv_iconst (v := 1) hx hb dL_law_16 (by decide) ?_
  refine va_newaK (N := 1) (atype := .long) hx hb (hts _ (lw_all_tbl q333)) rfl dL_law_17 rfl (by decide) (by decide) (by decide) (by show 0 + gN F + gN G + 1 ≤ 603072; omega) (by show 0 + gS F + gS G + 1 ≤ 7190634; omega) (h := s.heap.size + 96) (by omega) fun H5 cA f1 f2 f3 f4 f5 => ?_
  have hcA : cA = D.1 101 := Option.some.inj (f5.symm.trans (show s.vm.findClass ("[" ++ FieldType.long.toString) = some (D.1 101) from (hT.1.2 1 _ rfl).2))
  subst hcA
  have hS5 : va_S (A0 s) s.heap H5 locs4 := ⟨by omega, fun q w1 w2 => by rw [f3 q (by omega)]; exact hS4.2.1 q w1 w2, hS4.2.2⟩
  refine lv_astore_n (lv' := [(3, .ref (s.heap.size + 96)), (2, .ref (s.heap.size + 54)), (1, .ref s.heap.size), (0, .ref b)]) hx hb dL_law_19 rfl hl (by decide) rfl (fun la hl => ?_)
  refine lv_iconst (v := 0) hx hb dL_law_20 (by decide) ?_
  refine lv_istore (lv' := [(4, .int 0), (3, .ref (s.heap.size + 96)), (2, .ref (s.heap.size + 54)), (1, .ref s.heap.size), (0, .ref b)]) hx hb dL_law_21 hl (by decide) rfl (fun la hl => ?_)
  have inv' : Inv ((97, gS F), (cutT F).2) (gI F) (gI G) (gL G) := inv.cnt (97, gS F) (by show 54 ≤ 97; decide) (fun x hx => by
    have hx : 97 ≤ x := hx
    show (if x < 54 then gT F x else (0, 0)).1 = 0
    rw [if_neg (by omega)])
  have wc : wD O1 D s.heap.size (cV ((97, gS F), (cutT F).2)) H5 := start_c (gS F) FT FR w2 (fun a ha => by rw [f3 _ (by omega), k4 _ (by omega)]) (by omega)
  have wm : wD O2 D (s.heap.size + 54) (mV G) H5 := start_m GT GR w4 (fun a ha => f3 _ (by omega))
  have fin := law_loop (e := e) (below := below) X hL (gS G + 1) 65 0 0 ((97, gS F), (cutT F).2) G (gI F) (gI G) (gL F) (gL G) 0 H5 locs4 la nI_0.symm (by omega) (by omega) inv' (by show 97 + 800 * 65 ≤ 603072; decide) (by show gS G + 1 + gS F + 9000 * 65 ≤ 7190634; omega) (lv_sub hl [4, 3, 2, 1, 0] rfl) ⟨wc, wm, f1, Nat.le_refl _⟩ hS5
  have fin : LW p l e s m below meth c b H5 locs4 97 (gS G + 1 + gS F) (F0 m 23 la []) := fin
  rw [show (97 : Nat) = 0 + gN F + gN G + 1 by omega, show gS G + 1 + gS F = 0 + gS F + gS G + 1 by omega] at fin
  exact fin
