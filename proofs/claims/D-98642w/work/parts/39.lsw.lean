/-! the law: its switch, its loop (the switch printed by mk_law.py) -/
set_option maxRecDepth 100000
section LP
variable {p : Program} {l : Launch} {e : Env} {s : State} {m : MethodId} {below : List Frame} {meth : Method} {c : Code} {b L : Nat} {xs : Nat → Int32} {D : va_G} {x4 : Int32} {K i : Nat} {h g : HP} {I J : Nat → Nat → Int32} {L0 M : Nat → Nat → Int64} {v : Int64} {H : Heap} {locs : List Loc} {la : Array Slot}
theorem law_body (X : LX p l s m meth c b L xs D) (hL : L ≤ 384) (h4 : x4 = nI i) (hi : i + 6 ≤ L) (q : Inv h I J M) (hN : gN h + 800 ≤ 603072) (hK : K + gS h + 9000 ≤ 7190634) (hl : lv_has la 7 (lwl s b x4)) (hLS : LZ s D (hw h I L0) (hw g J M) v H) (hS : va_S (A0 s) s.heap H locs) (kk : NxL p l e s m below meth c b D x4 K h g) : LW p l e s m below meth c b H locs (gN h) (K + gS h) (F0 m 33 la []) := by
  obtain ⟨⟨hx, hb, hr', hml, hown, hts, hX, hbl, hlocks, hgv⟩, -⟩ := id X
  refine lv_aload_n hx hb dL_law_33 rfl (lv_at hl 0 rfl) ?_
  refine lv_iload hx hb dL_law_34 (lv_at hl 4 rfl) ?_
  refine va_sld hx hb hX hbl (A0_no b hbl) hS (by rw [h4]; exact vp_in_nI (show i < L by omega) (by omega)) dL_law_36 ?_
  refine lv_bipush (v := 63) hx hb dL_law_37 (by decide) ?_
  refine lv_iand hx hb dL_law_39 ?_
  generalize xs x4.toNatClampNeg &&& 63 = x
  have dft : LW p l e s m below meth c b H locs (gN h) (K + gS h) (F0 m 1626 la []) := kk h I L0 J M v H locs la q (by omega) (by omega) hl hLS hS
  by_cases h1 : x.toInt < 0
  · exact lv_tableOut (tgt := 1626) hx hb dL_law_40 (Or.inl h1) (by decide) dft
  by_cases h2 : 37 < x.toInt
  · exact lv_tableOut (tgt := 1626) hx hb dL_law_40 (Or.inr h2) (by decide) dft
  rcases (show x.toInt = 0 ∨ x.toInt = 1 ∨ x.toInt = 2 ∨ x.toInt = 3 ∨ x.toInt = 4 ∨ x.toInt = 5 ∨ x.toInt = 6 ∨ x.toInt = 7 ∨ x.toInt = 8 ∨ x.toInt = 9 ∨ x.toInt = 10 ∨ x.toInt = 11 ∨ x.toInt = 12 ∨ x.toInt = 13 ∨ x.toInt = 14 ∨ x.toInt = 15 ∨ x.toInt = 16 ∨ x.toInt = 17 ∨ x.toInt = 18 ∨ x.toInt = 19 ∨ x.toInt = 20 ∨ x.toInt = 21 ∨ x.toInt = 22 ∨ x.toInt = 23 ∨ x.toInt = 24 ∨ x.toInt = 25 ∨ x.toInt = 26 ∨ x.toInt = 27 ∨ x.toInt = 28 ∨ x.toInt = 29 ∨ x.toInt = 30 ∨ x.toInt = 31 ∨ x.toInt = 32 ∨ x.toInt = 33 ∨ x.toInt = 34 ∨ x.toInt = 35 ∨ x.toInt = 36 ∨ x.toInt = 37 by omega) with h3 | h3 | h3 | h3 | h3 | h3 | h3 | h3 | h3 | h3 | h3 | h3 | h3 | h3 | h3 | h3 | h3 | h3 | h3 | h3 | h3 | h3 | h3 | h3 | h3 | h3 | h3 | h3 | h3 | h3 | h3 | h3 | h3 | h3 | h3 | h3 | h3 | h3
  · exact lv_tableIn (tgt := 208) (off := 168) hx hb dL_law_40 h1 h2 (by rw [h3]; rfl) (by decide) (lc_feed X hL h4 hi q hN hK hl hLS hS kk)
  · exact lv_tableIn (tgt := 281) (off := 241) hx hb dL_law_40 h1 h2 (by rw [h3]; rfl) (by decide) (lc_text X hL h4 hi q hN hK hl hLS hS kk)
  · exact lv_tableIn (tgt := 306) (off := 266) hx hb dL_law_40 h1 h2 (by rw [h3]; rfl) (by decide) (lc_fault X hL h4 hi q hN hK hl hLS hS kk)
  · exact lv_tableIn (tgt := 331) (off := 291) hx hb dL_law_40 h1 h2 (by rw [h3]; rfl) (by decide) (lc_named X hL h4 hi q hN hK hl hLS hS kk)
  · exact lv_tableIn (tgt := 368) (off := 328) hx hb dL_law_40 h1 h2 (by rw [h3]; rfl) (by decide) (lc_person X hL h4 hi q hN hK hl hLS hS kk)
  · exact lv_tableIn (tgt := 436) (off := 396) hx hb dL_law_40 h1 h2 (by rw [h3]; rfl) (by decide) (lc_question X hL h4 hi q hN hK hl hLS hS kk)
  · exact lv_tableIn (tgt := 473) (off := 433) hx hb dL_law_40 h1 h2 (by rw [h3]; rfl) (by decide) (lc_can X hL h4 hi q hN hK hl hLS hS kk)
  · exact lv_tableIn (tgt := 522) (off := 482) hx hb dL_law_40 h1 h2 (by rw [h3]; rfl) (by decide) (lc_law X hL h4 hi q hN hK hl hLS hS kk)
  · exact lv_tableIn (tgt := 572) (off := 532) hx hb dL_law_40 h1 h2 (by rw [h3]; rfl) (by decide) (lc_ask X hL h4 hi q hN hK hl hLS hS kk)
  · exact lv_tableIn (tgt := 621) (off := 581) hx hb dL_law_40 h1 h2 (by rw [h3]; rfl) (by decide) (lc_tell X hL h4 hi q hN hK hl hLS hS kk)
  · exact lv_tableIn (tgt := 658) (off := 618) hx hb dL_law_40 h1 h2 (by rw [h3]; rfl) (by decide) (lc_send X hL h4 hi q hN hK hl hLS hS kk)
  · exact lv_tableIn (tgt := 695) (off := 655) hx hb dL_law_40 h1 h2 (by rw [h3]; rfl) (by decide) (lc_end X hL h4 hi q hN hK hl hLS hS kk)
  · exact lv_tableIn (tgt := 708) (off := 668) hx hb dL_law_40 h1 h2 (by rw [h3]; rfl) (by decide) (lc_all X hL h4 hi q hN hK hl hLS hS kk)
  · exact lv_tableIn (tgt := 733) (off := 693) hx hb dL_law_40 h1 h2 (by rw [h3]; rfl) (by decide) (lc_never X hL h4 hi q hN hK hl hLS hS kk)
  · exact lv_tableIn (tgt := 770) (off := 730) hx hb dL_law_40 h1 h2 (by rw [h3]; rfl) (by decide) (lc_away X hL h4 hi q hN hK hl hLS hS kk)
  · exact lv_tableIn (tgt := 807) (off := 767) hx hb dL_law_40 h1 h2 (by rw [h3]; rfl) (by decide) (lc_spread X hL h4 hi q hN hK hl hLS hS kk)
  · exact lv_tableIn (tgt := 832) (off := 792) hx hb dL_law_40 h1 h2 (by rw [h3]; rfl) (by decide) (lc_hint X hL h4 hi q hN hK hl hLS hS kk)
  · exact lv_tableIn (tgt := 881) (off := 841) hx hb dL_law_40 h1 h2 (by rw [h3]; rfl) (by decide) (lc_unasked X hL h4 hi q hN hK hl hLS hS kk)
  · exact lv_tableIn (tgt := 906) (off := 866) hx hb dL_law_40 h1 h2 (by rw [h3]; rfl) (by decide) (lc_inRoom X hL h4 hi q hN hK hl hLS hS kk)
  · exact lv_tableIn (tgt := 943) (off := 903) hx hb dL_law_40 h1 h2 (by rw [h3]; rfl) (by decide) (lc_bestRoom X hL h4 hi q hN hK hl hLS hS kk)
  · exact lv_tableIn (tgt := 968) (off := 928) hx hb dL_law_40 h1 h2 (by rw [h3]; rfl) (by decide) (lc_way X hL h4 hi q hN hK hl hLS hS kk)
  · exact lv_tableIn (tgt := 1029) (off := 989) hx hb dL_law_40 h1 h2 (by rw [h3]; rfl) (by decide) (lc_step X hL h4 hi q hN hK hl hLS hS kk)
  · exact lv_tableIn (tgt := 1102) (off := 1062) hx hb dL_law_40 h1 h2 (by rw [h3]; rfl) (by decide) (lc_care X hL h4 hi q hN hK hl hLS hS kk)
  · exact lv_tableIn (tgt := 1127) (off := 1087) hx hb dL_law_40 h1 h2 (by rw [h3]; rfl) (by decide) (lc_best X hL h4 hi q hN hK hl hLS hS kk)
  · exact lv_tableIn (tgt := 1176) (off := 1136) hx hb dL_law_40 h1 h2 (by rw [h3]; rfl) (by decide) (lc_rests X hL h4 hi q hN hK hl hLS hS kk)
  · exact lv_tableIn (tgt := 1213) (off := 1173) hx hb dL_law_40 h1 h2 (by rw [h3]; rfl) (by decide) (lc_rest X hL h4 hi q hN hK hl hLS hS kk)
  · exact lv_tableIn (tgt := 1262) (off := 1222) hx hb dL_law_40 h1 h2 (by rw [h3]; rfl) (by decide) (lc_slipped X hL h4 hi q hN hK hl hLS hS kk)
  · exact lv_tableIn (tgt := 1287) (off := 1247) hx hb dL_law_40 h1 h2 (by rw [h3]; rfl) (by decide) (lc_behind X hL h4 hi q hN hK hl hLS hS kk)
  · exact lv_tableIn (tgt := 1324) (off := 1284) hx hb dL_law_40 h1 h2 (by rw [h3]; rfl) (by decide) (lc_note X hL h4 hi q hN hK hl hLS hS kk)
  · exact lv_tableIn (tgt := 1401) (off := 1361) hx hb dL_law_40 h1 h2 (by rw [h3]; rfl) (by decide) (lc_strike X hL h4 hi q hN hK hl hLS hS kk)
  · exact lv_tableIn (tgt := 1426) (off := 1386) hx hb dL_law_40 h1 h2 (by rw [h3]; rfl) (by decide) (lc_known X hL h4 hi q hN hK hl hLS hS kk)
  · exact lv_tableIn (tgt := 1451) (off := 1411) hx hb dL_law_40 h1 h2 (by rw [h3]; rfl) (by decide) (lc_knew X hL h4 hi q hN hK hl hLS hS kk)
  · exact lv_tableIn (tgt := 1476) (off := 1436) hx hb dL_law_40 h1 h2 (by rw [h3]; rfl) (by decide) (lc_chance X hL h4 hi q hN hK hl hLS hS kk)
  · exact lv_tableIn (tgt := 1525) (off := 1485) hx hb dL_law_40 h1 h2 (by rw [h3]; rfl) (by decide) (lc_tried X hL h4 hi q hN hK hl hLS hS kk)
  · exact lv_tableIn (tgt := 1562) (off := 1522) hx hb dL_law_40 h1 h2 (by rw [h3]; rfl) (by decide) (lc_undo X hL h4 hi q hN hK hl hLS hS kk)
  · exact lv_tableIn (tgt := 1575) (off := 1535) hx hb dL_law_40 h1 h2 (by rw [h3]; rfl) (by decide) (lc_keep X hL h4 hi q hN hK hl hLS hS kk)
  · exact lv_tableIn (tgt := 1588) (off := 1548) hx hb dL_law_40 h1 h2 (by rw [h3]; rfl) (by decide) (lc_back X hL h4 hi q hN hK hl hLS hS kk)
  · exact lv_tableIn (tgt := 1601) (off := 1561) hx hb dL_law_40 h1 h2 (by rw [h3]; rfl) (by decide) (lc_count X hL h4 hi q hN hK hl hLS hS kk)
end LP
