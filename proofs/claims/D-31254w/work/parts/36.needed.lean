set_option maxRecDepth 100000
theorem zneed {w : Int → Int} {v0 : Int} : tw_isNeeded w v0 = ((tw_isReleased w v0 || decide (tw_newestOf w (w (261 + 9 * v0)) (w (261 + 9 * v0 + 1)) = v0)) || decide (0 < zct (fun i : Nat => decide (w (5 + 32 * w (261 + 9 * v0) + 8 + 8 * i) = v0) || (decide (0 < w (5 + 32 * w (261 + 9 * v0) + 8 + 8 * i + 1)) && decide (w (5 + 32 * w (261 + 9 * v0) + 8 + 8 * i + 3) = v0))) (w (5 + 32 * w (261 + 9 * v0) + 1)).toNat + zct (fun i : Nat => decide (w (801 + 3 * i + 1) = 0) && decide (w (801 + 3 * i + 2) = v0)) (w 4).toNat)) := by
  unfold tw_isNeeded
  rw [zdl_ct, zdb_ct, Bool.or_assoc]
  congr 1
  have h1 := zct_R (fun i : Nat => decide (w (5 + 32 * w (261 + 9 * v0) + 8 + 8 * i) = v0) || (decide (0 < w (5 + 32 * w (261 + 9 * v0) + 8 + 8 * i + 1)) && decide (w (5 + 32 * w (261 + 9 * v0) + 8 + 8 * i + 3) = v0))) (w (5 + 32 * w (261 + 9 * v0) + 1)).toNat
  have h2 := zct_R (fun i : Nat => decide (w (801 + 3 * i + 1) = 0) && decide (w (801 + 3 * i + 2) = v0)) (w 4).toNat
  rw [Bool.eq_iff_iff]
  simp only [Bool.or_eq_true, decide_eq_true_eq]
  constructor
  · rintro (h | h) <;> omega
  · intro h
    by_cases q : 0 < zct (fun i : Nat => decide (w (5 + 32 * w (261 + 9 * v0) + 8 + 8 * i) = v0) || (decide (0 < w (5 + 32 * w (261 + 9 * v0) + 8 + 8 * i + 1)) && decide (w (5 + 32 * w (261 + 9 * v0) + 8 + 8 * i + 3) = v0))) (w (5 + 32 * w (261 + 9 * v0) + 1)).toNat
    · exact Or.inl q
    · exact Or.inr (by omega)
theorem zbo_is {w : Int → Int} {ad : zKey → Nat} {mc : Int → Int} {cp : Int → Nat} {cl : Bool} {F : Nat → Prop} {G : zG} {H : Heap} (h : zR G w ad mc cp cl F H) {v x : Int} (hv : 0 ≤ v ∧ v < w 3) (hx : -1 ≤ x ∧ x < w 3) : (zbo ad x = some (ad (kver v))) ↔ x = v := by
  unfold zbo
  by_cases q : x = -1
  · rw [if_pos q]
    exact ⟨fun z => (by cases z), fun z => absurd z (by omega)⟩
  · rw [if_neg q]
    exact zat_cy h ⟨by omega, hx.2⟩ hv
theorem hn_X2_isNeeded : yX2_isNeeded.cls ≠ "java/lang/invoke/MethodHandle" ∧ yX2_isNeeded.cls ≠ "java/lang/invoke/VarHandle" ∧ (parseMethodDescriptor yX2_isNeeded.desc).map (fun d => d.parameters.length) = some 1 := by decide +kernel
theorem hd_X2_isNeeded : yX2_isNeeded.cls = "CheckoutDesk$Store" ∧ yX2_isNeeded.cls ≠ "java/lang/invoke/MethodHandle" ∧ yX2_isNeeded.cls ≠ "java/lang/invoke/VarHandle" ∧ (parseMethodDescriptor yX2_isNeeded.desc).map (fun d => d.parameters.length) = some 1 := ⟨rfl, hn_X2_isNeeded⟩
abbrev rm_X2_isNeeded : Room := { frames := 62, cells := 3, slots := 7, locals := 1046 }
set_option maxHeartbeats 1000000 in
theorem cg_X2_isNeeded (l : Launch) {G : zG} {H0 : Heap} {w : Int → Int} {ad : zKey → Nat} {mc : Int → Int} {cp : Int → Nat} {cl : Bool} {F : Nat → Prop} (hR : zR G w ad mc cp cl F H0) {v0 : Int} (hv0 : 0 ≤ v0 ∧ v0 < w 3) (hVr : tVer2 w) (hVd : tVd w) (hBr : tBr w) (hLk : tLk w) : zM l yX2_isNeeded (ws_ yX2_isNeeded cX2_isNeeded 3 (some .boolean)) rm_X2_isNeeded G (zN H0) [.ref (ad kst), .ref (ad (kver v0))] H0 (fun r H1 => r = some (.int (iI (bI (tw_isNeeded w v0)))) ∧ ∀ q : Nat, q < H0.size → H1[q]? = H0[q]?) (fun _ => False) := by
  refine z_enter (by decide +kernel) (Nat.le_of_ble_eq_true rfl) ?_
  intro p e s m args below meth c ls hx hb hret hml hown hts hlocks htab hnm hK hH hl
  subst hH
  have hAn : ∀ q, s.heap.size ≤ q → (zN s.heap) q := fun _ h => h
  have hS : va_S (zN s.heap) s.heap s.heap [] := va_S.rf
  have hS0 := hS
  have hsz_0 : s.heap.size ≤ s.heap.size := Nat.le_refl _
  have hl : lv_has ls 3 [(0, .ref (ad kst)), (1, .ref (ad (kver v0)))] := hl
  obtain ⟨hD, hV, hL_, hB, hwR⟩ := hR.n
  have hvd := hVd v0 hv0.1 hv0.2
  have hbb := hB _ hvd.1 hvd.2
  have hz1 := zct_R (fun i : Nat => decide (w (5 + 32 * w (261 + 9 * v0) + 8 + 8 * i) = v0) || (decide (0 < w (5 + 32 * w (261 + 9 * v0) + 8 + 8 * i + 1)) && decide (w (5 + 32 * w (261 + 9 * v0) + 8 + 8 * i + 3) = v0))) (w (5 + 32 * w (261 + 9 * v0) + 1)).toNat
  have hz2 := zct_R (fun i : Nat => decide (w (801 + 3 * i + 1) = 0) && decide (w (801 + 3 * i + 2) = v0)) (w 4).toNat
  have hnw : -1 ≤ tw_newestOf w (w (261 + 9 * v0)) (w (261 + 9 * v0 + 1)) ∧ tw_newestOf w (w (261 + 9 * v0)) (w (261 + 9 * v0 + 1)) < w 3 := by have := tw_nw_R w (w (261 + 9 * v0)) (w (261 + 9 * v0 + 1)) (w 3).toNat; unfold tw_newestOf; omega
  refine lv_aload_n hx hb dX2_isNeeded_0 rfl (lv_at hl 1 rfl) ?_
  refine z_callp (vx_runV (As := []) (rest := []) ⟨hx, hb, hml, hown, hts⟩ (cg_X12_isReleased l (hR.ver (v := v0) (by first | with_reducible assumption | exact ⟨by omega, by omega⟩ | exact ⟨⟨by omega, by omega⟩, by omega, by omega⟩ | exact ⟨⟨⟨by omega, by omega⟩, by omega, by omega⟩, by first | assumption | omega⟩)) (by first | with_reducible assumption | with_reducible exact hwR _ | omega | exact ⟨by omega, by omega⟩)) (cwV 0 hts (lw_V q386 q387 q388 q77 q389) rfl rfl rfl hd_X12_isReleased ⟨Nat.le_of_ble_eq_true rfl, Nat.le_of_ble_eq_true rfl⟩) (z_preV hK hS (zN_le hAn hS) (hR.ver (v := v0) (by first | with_reducible assumption | exact ⟨by omega, by omega⟩ | exact ⟨⟨by omega, by omega⟩, by omega, by omega⟩ | exact ⟨⟨⟨by omega, by omega⟩, by omega, by omega⟩, by first | assumption | omega⟩)) rfl rfl) rfl rfl hl.1 rfl (lv_room (Nat.le_of_ble_eq_true rfl)) dX2_isNeeded_1 ⟨Nat.le_of_ble_eq_true rfl, Nat.le_of_ble_eq_true rfl⟩) hS (zN_le hAn hS) rfl rfl (fun locs hS => ?_)
  refine z_ifb_ne (b := decide (w (261 + 9 * v0 + 3) = 0)) (tgt := 23) hx hb dX2_isNeeded_4 (by decide) (fun c_1 => ?_) (fun c_1 => ?_)
  · refine lv_iconst (v := iI 1) hx hb dX2_isNeeded_23 rfl ?_
    exact z_iret hx hb hret rfl hlocks hS ⟨congrArg (fun z => some (Value.int (iI (bI z)))) (by rw [zneed]; simp only [tw_isReleased]; rw [c_1]; rfl : true = tw_isNeeded w v0), (fun _ _ => rfl)⟩ (Nat.le_of_ble_eq_true rfl) (Nat.le_of_ble_eq_true rfl) dX2_isNeeded_24
  · refine lv_aload_n hx hb dX2_isNeeded_7 rfl (lv_at hl 1 rfl) ?_
    refine lv_aload_n hx hb dX2_isNeeded_8 rfl (lv_at hl 0 rfl) ?_
    refine lv_aload_n hx hb dX2_isNeeded_9 rfl (lv_at hl 1 rfl) ?_
    refine z_getN (k := 2) hx hb hts in_X12 hown hK (hR.ver (v := v0) (by first | with_reducible assumption | exact ⟨by omega, by omega⟩ | exact ⟨⟨by omega, by omega⟩, by omega, by omega⟩ | exact ⟨⟨⟨by omega, by omega⟩, by omega, by omega⟩, by first | assumption | omega⟩)) rfl (by decide) q1180 rfl (v := .int (iI (w (261 + 9 * v0)))) rfl dX2_isNeeded_10 ?_
    refine lv_aload_n hx hb dX2_isNeeded_13 rfl (lv_at hl 1 rfl) ?_
    refine z_getN (k := 3) hx hb hts in_X12 hown hK (hR.ver (v := v0) (by first | with_reducible assumption | exact ⟨by omega, by omega⟩ | exact ⟨⟨by omega, by omega⟩, by omega, by omega⟩ | exact ⟨⟨⟨by omega, by omega⟩, by omega, by omega⟩, by first | assumption | omega⟩)) rfl (by decide) q1183 rfl (v := .int (iI (w (261 + 9 * v0 + 1)))) rfl dX2_isNeeded_14 ?_
    refine z_callg (vx_runV (As := [.int (iI (w (261 + 9 * v0))), .int (iI (w (261 + 9 * v0 + 1)))]) (rest := [.ref (ad (kver v0))]) ⟨hx, hb, hml, hown, hts⟩ (cg_X2_newest l hR (d0 := w (261 + 9 * v0)) (b0 := w (261 + 9 * v0 + 1)) (by first | with_reducible assumption | with_reducible exact hwR _ | omega | exact ⟨by omega, by omega⟩) (by first | with_reducible assumption | with_reducible exact hwR _ | omega | exact ⟨by omega, by omega⟩) hVr) (cwV 2 hts (lw_V q991 q953 q954 q47 q955) rfl rfl rfl hd_X2_newest ⟨Nat.le_of_ble_eq_true rfl, Nat.le_of_ble_eq_true rfl⟩) (z_preV hK hS (zN_le hAn hS) hR.st rfl rfl) rfl rfl hl.1 rfl (lv_room (Nat.le_of_ble_eq_true rfl)) dX2_isNeeded_17 ⟨Nat.le_of_ble_eq_true rfl, Nat.le_of_ble_eq_true rfl⟩) hS (zN_le hAn hS) (fun H_3 locs _ hk_4 hS1 => ?_)
    have hS := hS1
    have hw_5 := hR.grow hk_4
    have hsz_6 : s.heap.size ≤ H_3.size := hS.1
    have hN_7 : ∀ q : Nat, q < s.heap.size → H_3[q]? = s.heap[q]? := fun q hq => (hk_4 q (Nat.lt_of_lt_of_le hq hS0.1)).trans ((fun _ _ => rfl) q hq)
    have hS0 := hS
    refine lv_acmp_ne (rx := some (ad (kver v0))) (ry := zbo ad (tw_newestOf w (w (261 + 9 * v0)) (w (261 + 9 * v0 + 1)))) (tgt := 25) hx hb dX2_isNeeded_20 (by decide) (fun c_8 => ?_) (fun c_8 => ?_)
    · refine lv_aload_n hx hb dX2_isNeeded_25 rfl (lv_at hl 0 rfl) ?_
      refine z_get (k := 0) hx hb hts in_X2 hown hK hw_5.st rfl (by decide) q165 rfl (v := .ref (ad (krow 0))) rfl dX2_isNeeded_26 ?_
      refine lv_aload_n hx hb dX2_isNeeded_29 rfl (lv_at hl 1 rfl) ?_
      refine z_getN (k := 2) hx hb hts in_X12 hown hK (hw_5.ver (v := v0) (by first | with_reducible assumption | exact ⟨by omega, by omega⟩ | exact ⟨⟨by omega, by omega⟩, by omega, by omega⟩ | exact ⟨⟨⟨by omega, by omega⟩, by omega, by omega⟩, by first | assumption | omega⟩)) rfl (by decide) q1180 rfl (v := .int (iI (w (261 + 9 * v0)))) rfl dX2_isNeeded_30 ?_
      have c_9 : 0 ≤ w (261 + 9 * v0) ∧ w (261 + 9 * v0) < w 2 := hvd
      refine z_callp (vx_runV (As := [.int (iI (w (261 + 9 * v0)))]) (rest := []) ⟨hx, hb, hml, hown, hts⟩ (cg_X3_get l (i0 := w (261 + 9 * v0)) (x0 := ad (kdoc (w (261 + 9 * v0)))) hw_5.rowD (hw_5.lstD (z_eD hK hS)) (by first | with_reducible assumption | with_reducible exact hwR _ | omega | exact ⟨by omega, by omega⟩) c_9 (zad_n (ad := ad) (fun z => kdoc z) (by omega))) (cwV 1 hts (lw_V q291 q292 q293 q48 q294) rfl rfl rfl hd_X3_get ⟨Nat.le_of_ble_eq_true rfl, Nat.le_of_ble_eq_true rfl⟩) (z_preV hK hS (zN_le hAn hS) hw_5.rowD rfl rfl) rfl rfl hl.1 rfl (lv_room (Nat.le_of_ble_eq_true rfl)) dX2_isNeeded_33 ⟨Nat.le_of_ble_eq_true rfl, Nat.le_of_ble_eq_true rfl⟩) hS (zN_le hAn hS) rfl rfl (fun locs hS => ?_)
      refine va_castE (nm := "CheckoutDesk$Document") hx hb hown (hts _ q385) (z_recv (q := (RX14, TX14, 3)) hK (hw_5.doc (d := (w (261 + 9 * v0))) (by first | with_reducible assumption | exact ⟨by omega, by omega⟩ | exact ⟨⟨by omega, by omega⟩, by omega, by omega⟩ | exact ⟨⟨⟨by omega, by omega⟩, by omega, by omega⟩, by first | assumption | omega⟩)) rfl) dX2_isNeeded_36 ?_
      refine z_getN (k := 2) hx hb hts in_X14 hown hK (hw_5.doc (d := (w (261 + 9 * v0))) (by first | with_reducible assumption | exact ⟨by omega, by omega⟩ | exact ⟨⟨by omega, by omega⟩, by omega, by omega⟩ | exact ⟨⟨⟨by omega, by omega⟩, by omega, by omega⟩, by first | assumption | omega⟩)) rfl (by decide) q1363 rfl (v := .ref (ad (krow (3 + (w (261 + 9 * v0)))))) rfl dX2_isNeeded_39 ?_
      refine z_newO (ci := 7) (fs := [.null, .null]) hx hb hts in_X8 tyX8 tyX8_ok hown q992 q993 q71 hK hS rfl (fun j hj => by rcases (show j = 0 ∨ j = 1 by omega) with rfl | rfl <;> rfl) (Nat.le_of_ble_eq_true rfl) (Nat.le_of_ble_eq_true rfl) dX2_isNeeded_42 (fun q_10 H_11 hq_10 ho_12 hz_13 hk_14 hS1 => ?_)
      have hS := hS1
      have wx_15 : ∀ k, zlive w cp k → ad k ≠ q_10 := fun k hk => by have := hw_5.lt hk; omega
      have hw_16 := hw_5.grow hk_14
      have hsz_17 : s.heap.size ≤ H_11.size := hS.1
      have hN_18 : ∀ q : Nat, q < s.heap.size → H_11[q]? = s.heap[q]? := fun q hq => (hk_14 q (Nat.lt_of_lt_of_le hq hS0.1)).trans (hN_7 q hq)
      have hS0 := hS
      have hA_q_10 := hAn q_10 (by omega)
      refine lv_dup hx hb dX2_isNeeded_45 rfl ?_
      refine lv_aload_n hx hb dX2_isNeeded_46 rfl (lv_at hl 0 rfl) ?_
      refine lv_aload_n hx hb dX2_isNeeded_47 rfl (lv_at hl 1 rfl) ?_
      refine z_callV (vx_runI (As := [.ref (ad kst), .ref (ad (kver v0))]) (rest := [.ref q_10, .ref (ad (krow (3 + (w (261 + 9 * v0)))))]) ⟨hx, hb, hml, hown, hts⟩ (cc_X8_init l ho_12) (cwI 2 hts (lw_meth q996) rfl rfl rfl (hts _ q71) (hts _ q994) (hts _ q995) rfl hn_X8_init ⟨Nat.le_of_ble_eq_true rfl, Nat.le_of_ble_eq_true rfl⟩) (z_preS hK hS (zO1_le hA_q_10 hAn hS)) rfl rfl hl.1 rfl (lv_room (Nat.le_of_ble_eq_true rfl)) dX2_isNeeded_48 ⟨Nat.le_of_ble_eq_true rfl, Nat.le_of_ble_eq_true rfl⟩) hS (zO1_le hA_q_10 hAn hS) (fun H_19 locs hp _ _ hS1 => ?_)
      obtain ⟨ho_20, hz_21, hk_22⟩ := hp
      have hS := hS1
      have hw_23 := hw_16.kept (fun k hk => hk_22 _ (wx_15 k hk))
      have hsz_24 : s.heap.size ≤ H_19.size := hS.1
      have hN_25 : ∀ q : Nat, q < s.heap.size → H_19[q]? = s.heap[q]? := fun q hq => (hk_22 q (by omega)).trans (hN_18 q hq)
      have hS0 := hS
      refine z_callp (vx_runV (As := [.ref q_10]) (rest := []) ⟨hx, hb, hml, hown, hts⟩ (cg_X3_count l (hw_23.rowB (d := (w (261 + 9 * v0))) (by first | with_reducible assumption | exact ⟨by omega, by omega⟩ | exact ⟨⟨by omega, by omega⟩, by omega, by omega⟩ | exact ⟨⟨⟨by omega, by omega⟩, by omega, by omega⟩, by first | assumption | omega⟩)) (hw_23.lstB (z_eD hK hS) (d := (w (261 + 9 * v0))) (by first | with_reducible assumption | exact ⟨by omega, by omega⟩ | exact ⟨⟨by omega, by omega⟩, by omega, by omega⟩ | exact ⟨⟨⟨by omega, by omega⟩, by omega, by omega⟩, by first | assumption | omega⟩)) ho_20 (rfl : zcl[7]? = some (RX8, TX8, 2)) hi_X8_fits ⟨rfl, rfl, Nat.le_of_ble_eq_true rfl, Nat.le_of_ble_eq_true rfl, Nat.le_of_ble_eq_true rfl⟩ (fun i : Nat => decide (w (5 + 32 * w (261 + 9 * v0) + 8 + 8 * i) = v0) || (decide (0 < w (5 + 32 * w (261 + 9 * v0) + 8 + 8 * i + 1)) && decide (w (5 + 32 * w (261 + 9 * v0) + 8 + 8 * i + 3) = v0))) (fun i hi => cg_X8_fits l hw_23 ho_20 hv0 ⟨⟨by omega, by omega⟩, by omega, hi⟩ hBr)) (cwV 1 hts (lw_V q1005 q251 q252 q48 q253) rfl rfl rfl hd_X3_count ⟨Nat.le_of_ble_eq_true rfl, Nat.le_of_ble_eq_true rfl⟩) (z_preV hK hS (zN_le hAn hS) (hw_23.rowB (d := (w (261 + 9 * v0))) (by first | with_reducible assumption | exact ⟨by omega, by omega⟩ | exact ⟨⟨by omega, by omega⟩, by omega, by omega⟩ | exact ⟨⟨⟨by omega, by omega⟩, by omega, by omega⟩, by first | assumption | omega⟩)) rfl rfl) rfl rfl hl.1 rfl (lv_room (Nat.le_of_ble_eq_true rfl)) dX2_isNeeded_51 ⟨Nat.le_of_ble_eq_true rfl, Nat.le_of_ble_eq_true rfl⟩) hS (zN_le hAn hS) rfl rfl (fun locs hS => ?_)
      refine lv_istore_n (lv' := [(2, .int (iI (zct (fun i : Nat => decide (w (5 + 32 * w (261 + 9 * v0) + 8 + 8 * i) = v0) || (decide (0 < w (5 + 32 * w (261 + 9 * v0) + 8 + 8 * i + 1)) && decide (w (5 + 32 * w (261 + 9 * v0) + 8 + 8 * i + 3) = v0))) (w (5 + 32 * (w (261 + 9 * v0)) + 1)).toNat))), (0, .ref (ad kst)), (1, .ref (ad (kver v0)))]) hx hb dX2_isNeeded_54 rfl hl (by decide) rfl (fun ls hl => ?_)
      refine lv_iload_n hx hb dX2_isNeeded_55 rfl (lv_at hl 0 rfl) ?_
      refine lv_aload_n hx hb dX2_isNeeded_56 rfl (lv_at hl 1 rfl) ?_
      refine z_get (k := 2) hx hb hts in_X2 hown hK hw_23.st rfl (by decide) q175 rfl (v := .ref (ad (krow 2))) rfl dX2_isNeeded_57 ?_
      refine z_newO (ci := 8) (fs := [.null, .null]) hx hb hts in_X9 tyX9 tyX9_ok hown q1006 q1007 q72 hK hS rfl (fun j hj => by rcases (show j = 0 ∨ j = 1 by omega) with rfl | rfl <;> rfl) (Nat.le_of_ble_eq_true rfl) (Nat.le_of_ble_eq_true rfl) dX2_isNeeded_60 (fun q_26 H_27 hq_26 ho_28 hz_29 hk_30 hS1 => ?_)
      have hS := hS1
      have wx_31 : ∀ k, zlive w cp k → ad k ≠ q_26 := fun k hk => by have := hw_23.lt hk; omega
      have ne_32 : q_10 ≠ q_26 := by have := ho_20.lt; omega
      have hw_33 := hw_23.grow hk_30
      have hf_34 := va_at.kept ho_20 (hk_30 _ ho_20.lt)
      have hsz_35 : s.heap.size ≤ H_27.size := hS.1
      have hN_36 : ∀ q : Nat, q < s.heap.size → H_27[q]? = s.heap[q]? := fun q hq => (hk_30 q (Nat.lt_of_lt_of_le hq hS0.1)).trans (hN_25 q hq)
      have hS0 := hS
      have hA_q_26 := hAn q_26 (by omega)
      refine lv_dup hx hb dX2_isNeeded_63 rfl ?_
      refine lv_aload_n hx hb dX2_isNeeded_64 rfl (lv_at hl 1 rfl) ?_
      refine lv_aload_n hx hb dX2_isNeeded_65 rfl (lv_at hl 2 rfl) ?_
      refine z_callV (vx_runI (As := [.ref (ad kst), .ref (ad (kver v0))]) (rest := [.ref q_26, .ref (ad (krow 2)), .int (iI (zct (fun i : Nat => decide (w (5 + 32 * w (261 + 9 * v0) + 8 + 8 * i) = v0) || (decide (0 < w (5 + 32 * w (261 + 9 * v0) + 8 + 8 * i + 1)) && decide (w (5 + 32 * w (261 + 9 * v0) + 8 + 8 * i + 3) = v0))) (w (5 + 32 * (w (261 + 9 * v0)) + 1)).toNat))]) ⟨hx, hb, hml, hown, hts⟩ (cc_X9_init l ho_28) (cwI 2 hts (lw_meth q1010) rfl rfl rfl (hts _ q72) (hts _ q1008) (hts _ q1009) rfl hn_X9_init ⟨Nat.le_of_ble_eq_true rfl, Nat.le_of_ble_eq_true rfl⟩) (z_preS hK hS (zO1_le hA_q_26 hAn hS)) rfl rfl hl.1 rfl (lv_room (Nat.le_of_ble_eq_true rfl)) dX2_isNeeded_66 ⟨Nat.le_of_ble_eq_true rfl, Nat.le_of_ble_eq_true rfl⟩) hS (zO1_le hA_q_26 hAn hS) (fun H_37 locs hp _ _ hS1 => ?_)
      obtain ⟨ho_38, hz_39, hk_40⟩ := hp
      have hS := hS1
      have hw_41 := hw_33.kept (fun k hk => hk_40 _ (wx_31 k hk))
      have hf_42 := va_at.kept hf_34 (hk_40 _ ne_32)
      have hsz_43 : s.heap.size ≤ H_37.size := hS.1
      have hN_44 : ∀ q : Nat, q < s.heap.size → H_37[q]? = s.heap[q]? := fun q hq => (hk_40 q (by omega)).trans (hN_36 q hq)
      have hS0 := hS
      refine z_callp (vx_runV (As := [.ref q_26]) (rest := [.int (iI (zct (fun i : Nat => decide (w (5 + 32 * w (261 + 9 * v0) + 8 + 8 * i) = v0) || (decide (0 < w (5 + 32 * w (261 + 9 * v0) + 8 + 8 * i + 1)) && decide (w (5 + 32 * w (261 + 9 * v0) + 8 + 8 * i + 3) = v0))) (w (5 + 32 * (w (261 + 9 * v0)) + 1)).toNat))]) ⟨hx, hb, hml, hown, hts⟩ (cg_X3_count l hw_41.rowL (hw_41.lstL (z_eD hK hS)) ho_38 (rfl : zcl[8]? = some (RX9, TX9, 2)) hi_X9_fits ⟨rfl, rfl, Nat.le_of_ble_eq_true rfl, Nat.le_of_ble_eq_true rfl, Nat.le_of_ble_eq_true rfl⟩ (fun i : Nat => decide (w (801 + 3 * i + 1) = 0) && decide (w (801 + 3 * i + 2) = v0)) (fun i hi => cg_X9_fits l hw_41 ho_38 hv0 ⟨by omega, hi⟩ hLk)) (cwV 1 hts (lw_V q1005 q251 q252 q48 q253) rfl rfl rfl hd_X3_count ⟨Nat.le_of_ble_eq_true rfl, Nat.le_of_ble_eq_true rfl⟩) (z_preV hK hS (zN_le hAn hS) hw_41.rowL rfl rfl) rfl rfl hl.1 rfl (lv_room (Nat.le_of_ble_eq_true rfl)) dX2_isNeeded_69 ⟨Nat.le_of_ble_eq_true rfl, Nat.le_of_ble_eq_true rfl⟩) hS (zN_le hAn hS) rfl rfl (fun locs hS => ?_)
      refine z_iadd (x := zct (fun i : Nat => decide (w (5 + 32 * w (261 + 9 * v0) + 8 + 8 * i) = v0) || (decide (0 < w (5 + 32 * w (261 + 9 * v0) + 8 + 8 * i + 1)) && decide (w (5 + 32 * w (261 + 9 * v0) + 8 + 8 * i + 3) = v0))) (w (5 + 32 * (w (261 + 9 * v0)) + 1)).toNat) (y := zct (fun i : Nat => decide (w (801 + 3 * i + 1) = 0) && decide (w (801 + 3 * i + 2) = v0)) (w 4).toNat) hx hb dX2_isNeeded_72 ?_
      refine z_join (pc2 := 81) (nL := 3) (lv := [(2, .int (iI (zct (fun i : Nat => decide (w (5 + 32 * w (261 + 9 * v0) + 8 + 8 * i) = v0) || (decide (0 < w (5 + 32 * w (261 + 9 * v0) + 8 + 8 * i + 1)) && decide (w (5 + 32 * w (261 + 9 * v0) + 8 + 8 * i + 3) = v0))) (w (5 + 32 * (w (261 + 9 * v0)) + 1)).toNat))), (0, .ref (ad kst)), (1, .ref (ad (kver v0)))]) (st2 := [.int (iI (bI (decide (0 < zct (fun i : Nat => decide (w (5 + 32 * w (261 + 9 * v0) + 8 + 8 * i) = v0) || (decide (0 < w (5 + 32 * w (261 + 9 * v0) + 8 + 8 * i + 1)) && decide (w (5 + 32 * w (261 + 9 * v0) + 8 + 8 * i + 3) = v0))) (w (5 + 32 * (w (261 + 9 * v0)) + 1)).toNat + zct (fun i : Nat => decide (w (801 + 3 * i + 1) = 0) && decide (w (801 + 3 * i + 2) = v0)) (w 4).toNat))))]) hS (fun J_45 => ?_) (fun locs ls hS hl => ?_)
      · refine z_if_le (x := zct (fun i : Nat => decide (w (5 + 32 * w (261 + 9 * v0) + 8 + 8 * i) = v0) || (decide (0 < w (5 + 32 * w (261 + 9 * v0) + 8 + 8 * i + 1)) && decide (w (5 + 32 * w (261 + 9 * v0) + 8 + 8 * i + 3) = v0))) (w (5 + 32 * (w (261 + 9 * v0)) + 1)).toNat + zct (fun i : Nat => decide (w (801 + 3 * i + 1) = 0) && decide (w (801 + 3 * i + 2) = v0)) (w 4).toNat) (tgt := 80) hx hb (by first | with_reducible assumption | with_reducible exact hwR _ | omega | exact ⟨by omega, by omega⟩) dX2_isNeeded_73 (by decide) (fun c_46 => ?_) (fun c_46 => ?_)
        · refine lv_iconst (v := iI 0) hx hb dX2_isNeeded_80 rfl ?_
          refine z_top (x := 0) (y := bI (decide (0 < zct (fun i : Nat => decide (w (5 + 32 * w (261 + 9 * v0) + 8 + 8 * i) = v0) || (decide (0 < w (5 + 32 * w (261 + 9 * v0) + 8 + 8 * i + 1)) && decide (w (5 + 32 * w (261 + 9 * v0) + 8 + 8 * i + 3) = v0))) (w (5 + 32 * (w (261 + 9 * v0)) + 1)).toNat + zct (fun i : Nat => decide (w (801 + 3 * i + 1) = 0) && decide (w (801 + 3 * i + 2) = v0)) (w 4).toNat))) (by simp [bI, c_46]) ?_
          exact J_45 _ ls hS (lv_sub hl [0, 1, 2] rfl)
        · refine lv_iconst (v := iI 1) hx hb dX2_isNeeded_76 rfl ?_
          refine lv_goto (tgt := 81) hx hb dX2_isNeeded_77 (by decide) ?_
          refine z_top (x := 1) (y := bI (decide (0 < zct (fun i : Nat => decide (w (5 + 32 * w (261 + 9 * v0) + 8 + 8 * i) = v0) || (decide (0 < w (5 + 32 * w (261 + 9 * v0) + 8 + 8 * i + 1)) && decide (w (5 + 32 * w (261 + 9 * v0) + 8 + 8 * i + 3) = v0))) (w (5 + 32 * (w (261 + 9 * v0)) + 1)).toNat + zct (fun i : Nat => decide (w (801 + 3 * i + 1) = 0) && decide (w (801 + 3 * i + 2) = v0)) (w 4).toNat))) (by simp [bI, c_46]) ?_
          exact J_45 _ ls hS (lv_sub hl [0, 1, 2] rfl)
      · exact z_iret hx hb hret (z_nar _) hlocks hS ⟨congrArg (fun z => some (Value.int (iI (bI z)))) (by rw [zneed, show tw_isReleased w v0 = false by simpa [tw_isReleased] using c_1, show decide (tw_newestOf w (w (261 + 9 * v0)) (w (261 + 9 * v0 + 1)) = v0) = false from decide_eq_false (fun q => c_8 ((zbo_is hR hv0 hnw).mpr q).symm)]; rfl), hN_44⟩ (Nat.le_of_ble_eq_true rfl) (Nat.le_of_ble_eq_true rfl) dX2_isNeeded_81
    · refine lv_iconst (v := iI 1) hx hb dX2_isNeeded_23 rfl ?_
      exact z_iret hx hb hret rfl hlocks hS ⟨congrArg (fun z => some (Value.int (iI (bI z)))) (by rw [zneed, (zbo_is hR hv0 hnw).mp c_8.symm]; simp : true = tw_isNeeded w v0), hN_7⟩ (Nat.le_of_ble_eq_true rfl) (Nat.le_of_ble_eq_true rfl) dX2_isNeeded_24
theorem hn_X2_opened : yX2_opened.cls ≠ "java/lang/invoke/MethodHandle" ∧ yX2_opened.cls ≠ "java/lang/invoke/VarHandle" ∧ (parseMethodDescriptor yX2_opened.desc).map (fun d => d.parameters.length) = some 2 := by decide +kernel
theorem hd_X2_opened : yX2_opened.cls = "CheckoutDesk$Store" ∧ yX2_opened.cls ≠ "java/lang/invoke/MethodHandle" ∧ yX2_opened.cls ≠ "java/lang/invoke/VarHandle" ∧ (parseMethodDescriptor yX2_opened.desc).map (fun d => d.parameters.length) = some 2 := ⟨rfl, hn_X2_opened⟩
abbrev rm_X2_opened : Room := { frames := 61, cells := 1, slots := 3, locals := 1024 }
set_option maxHeartbeats 1000000 in
theorem cg_X2_opened (l : Launch) {G : zG} {H0 : Heap} {w : Int → Int} {ad : zKey → Nat} {mc : Int → Int} {cp : Int → Nat} {cl : Bool} {F : Nat → Prop} (hR : zR G w ad mc cp cl F H0) {k0 p0 : Int} (hk0 : 0 ≤ k0 ∧ k0 < w 4) (hp0 : 0 ≤ p0 ∧ p0 ≤ 5) (hVr : tVer2 w) (hVd : tVd w) (hLk : tLk w) (hLn : tLnk w) : zM l yX2_opened (ws_ yX2_opened cX2_opened 3 (some (.object "CheckoutDesk$Version"))) rm_X2_opened G (zN H0) [.ref (ad kst), .ref (ad (klk k0)), .int (iI p0)] H0 (fun r H1 => r = some (va_rf (zbo ad (tw_opens w k0 p0))) ∧ ∀ q : Nat, q < H0.size → H1[q]? = H0[q]?) (fun _ => False) := by
  refine z_enter (by decide +kernel) (Nat.le_of_ble_eq_true rfl) ?_
  intro p e s m args below meth c ls hx hb hret hml hown hts hlocks htab hnm hK hH hl
  subst hH
  have hAn : ∀ q, s.heap.size ≤ q → (zN s.heap) q := fun _ h => h
  have hS : va_S (zN s.heap) s.heap s.heap [] := va_S.rf
  have hS0 := hS
  have hsz_0 : s.heap.size ≤ s.heap.size := Nat.le_refl _
  have hl : lv_has ls 3 [(0, .ref (ad kst)), (1, .ref (ad (klk k0))), (2, .int (iI p0))] := hl
  obtain ⟨hD, hV, hL_, hB, hwR⟩ := hR.n
  have hop := tw_op_R w k0 p0 (w 3).toNat
  refine lv_aload_n hx hb dX2_opened_0 rfl (lv_at hl 1 rfl) ?_
  refine z_getN (k := 2) hx hb hts in_X13 hown hK (hR.lk (k := k0) (by first | with_reducible assumption | exact ⟨by omega, by omega⟩ | exact ⟨⟨by omega, by omega⟩, by omega, by omega⟩ | exact ⟨⟨⟨by omega, by omega⟩, by omega, by omega⟩, by first | assumption | omega⟩)) rfl (by decide) q1268 rfl (v := .int (iI (w (801 + 3 * k0 + 1)))) rfl dX2_opened_1 ?_
  refine z_if_ne (x := w (801 + 3 * k0 + 1)) (tgt := 28) hx hb (by first | with_reducible assumption | with_reducible exact hwR _ | omega | exact ⟨by omega, by omega⟩) dX2_opened_4 (by decide) (fun c_1 => ?_) (fun c_1 => ?_)
  · have hkd := c_1
    refine lv_aload_n hx hb dX2_opened_28 rfl (lv_at hl 0 rfl) ?_
    refine z_get (k := 1) hx hb hts in_X2 hown hK hR.st rfl (by decide) q168 rfl (v := .ref (ad (krow 1))) rfl dX2_opened_29 ?_
    refine z_newO (ci := 6) (fs := [.null, .int (iI 0), .null]) hx hb hts in_X7 tyX7 tyX7_ok hown q390 q391 q60 hK hS rfl (fun j hj => by rcases (show j = 0 ∨ j = 1 ∨ j = 2 by omega) with rfl | rfl | rfl <;> rfl) (Nat.le_of_ble_eq_true rfl) (Nat.le_of_ble_eq_true rfl) dX2_opened_32 (fun q_2 H_3 hq_2 ho_4 hz_5 hk_6 hS1 => ?_)
    have hS := hS1
    have wx_7 : ∀ k, zlive w cp k → ad k ≠ q_2 := fun k hk => by have := hR.lt hk; omega
    have hw_8 := hR.grow hk_6
    have hsz_9 : s.heap.size ≤ H_3.size := hS.1
    have hN_10 : ∀ q : Nat, q < s.heap.size → H_3[q]? = s.heap[q]? := fun q hq => (hk_6 q (Nat.lt_of_lt_of_le hq hS0.1)).trans ((fun _ _ => rfl) q hq)
    have hS0 := hS
    have hA_q_2 := hAn q_2 (by omega)
    refine lv_dup hx hb dX2_opened_35 rfl ?_
    refine lv_aload_n hx hb dX2_opened_36 rfl (lv_at hl 0 rfl) ?_
    refine lv_aload_n hx hb dX2_opened_37 rfl (lv_at hl 1 rfl) ?_
    refine lv_iload_n hx hb dX2_opened_38 rfl (lv_at hl 2 rfl) ?_
    refine z_callV (vx_runI (As := [.ref (ad kst), .ref (ad (klk k0)), .int (iI p0)]) (rest := [.ref q_2, .ref (ad (krow 1))]) ⟨hx, hb, hml, hown, hts⟩ (cc_X7_init l ho_4) (cwI 3 hts (lw_meth q394) rfl rfl rfl (hts _ q60) (hts _ q392) (hts _ q393) rfl hn_X7_init ⟨Nat.le_of_ble_eq_true rfl, Nat.le_of_ble_eq_true rfl⟩) (z_preS hK hS (zO1_le hA_q_2 hAn hS)) rfl rfl hl.1 rfl (lv_room (Nat.le_of_ble_eq_true rfl)) dX2_opened_39 ⟨Nat.le_of_ble_eq_true rfl, Nat.le_of_ble_eq_true rfl⟩) hS (zO1_le hA_q_2 hAn hS) (fun H_11 locs hp _ _ hS1 => ?_)
    obtain ⟨ho_12, hz_13, hk_14⟩ := hp
    have hS := hS1
    have hw_15 := hw_8.kept (fun k hk => hk_14 _ (wx_7 k hk))
    have hsz_16 : s.heap.size ≤ H_11.size := hS.1
    have hN_17 : ∀ q : Nat, q < s.heap.size → H_11[q]? = s.heap[q]? := fun q hq => (hk_14 q (by omega)).trans (hN_10 q hq)
    have hS0 := hS
    refine z_callp (vx_runSN (As := [.ref (ad (krow 1)), .ref q_2]) (rest := []) ⟨hx, hb, hml, hown, hts⟩ (cg_X1_greatest l hw_15 ho_12 (rfl : zcl[6]? = some (RX7, TX7, 3)) hi_X7_fits ⟨rfl, rfl, Nat.le_of_ble_eq_true rfl, Nat.le_of_ble_eq_true rfl, Nat.le_of_ble_eq_true rfl⟩ (fun i : Nat => tw_isOn w i (w (801 + 3 * k0 + 2)) 0 && (tw_sees w p0 i && (decide (w (801 + 3 * k0 + 1) = 1) || tw_isReleased w i))) (fun i hi => cg_X7_fits l hw_15 ho_12 ⟨by omega, hi⟩ hk0 hp0 hkd hVd) hVr) ⟨va_cnB 2 hts (lw_meth q408) rfl rfl rfl (hK.2.1 _ q406 rfl) (hts _ q43) hn_X1_greatest ⟨Nat.le_of_ble_eq_true rfl, Nat.le_of_ble_eq_true rfl⟩, hts _ q407, trivial⟩ (z_preS hK hS (zN_le hAn hS)) rfl rfl hl.1 rfl (lv_room (Nat.le_of_ble_eq_true rfl)) dX2_opened_42 ⟨Nat.le_of_ble_eq_true rfl, Nat.le_of_ble_eq_true rfl⟩) hS (zN_le hAn hS) rfl rfl (fun locs hS => ?_)
    refine W.eq (g2 := F0 m 45 ls (va_rf (zbo ad (tw_op w k0 p0 (w 3).toNat)) :: [])) (congrArg (fun z => F0 m 45 ls (va_rf (zbo ad z) :: [])) (zbs_op _)) ?_
    refine z_castEq (nm := "CheckoutDesk$Version") hx hb hown (hts _ q737) (fun x hx9 => by obtain ⟨hn9, rfl⟩ := zbo_some hx9; exact z_recv (q := (RX12, TX12, 7)) hK (hw_15.ver (v := tw_op w k0 p0 (w 3).toNat) ⟨by omega, by omega⟩) rfl) dX2_opened_45 ?_
    exact z_aret (r := zbo ad (tw_op w k0 p0 (w 3).toNat)) hx hb hret (Or.inl ⟨_, rfl⟩) hlocks hS ⟨by rw [show tw_opens w k0 p0 = tw_op w k0 p0 (w 3).toNat from if_neg c_1], hN_17⟩ (Nat.le_of_ble_eq_true rfl) (Nat.le_of_ble_eq_true rfl) dX2_opened_48
  · have hzl : zLv w ad k0 = some (ad (kver (w (801 + 3 * k0 + 2)))) := if_pos c_1
    have htg := hLk k0 hk0.1 hk0.2 c_1
    have hth := (hLn k0 hk0.1 hk0.2).2.2.1 c_1
    have hgn : zGn w (w (801 + 3 * k0 + 2)) = false := by simp [zGn, hth]
    refine lv_aload_n hx hb dX2_opened_7 rfl (lv_at hl 0 rfl) ?_
    refine lv_iload_n hx hb dX2_opened_8 rfl (lv_at hl 2 rfl) ?_
    refine lv_aload_n hx hb dX2_opened_9 rfl (lv_at hl 1 rfl) ?_
    refine z_getN (k := 3) hx hb hts in_X13 hown hK (hR.lk (k := k0) (by first | with_reducible assumption | exact ⟨by omega, by omega⟩ | exact ⟨⟨by omega, by omega⟩, by omega, by omega⟩ | exact ⟨⟨⟨by omega, by omega⟩, by omega, by omega⟩, by first | assumption | omega⟩)) rfl (by decide) q1271 rfl (v := va_rf (zLv w ad k0)) rfl dX2_opened_10 ?_
    refine W.eq (g2 := F0 m 13 ls (.ref (ad (kver (w (801 + 3 * k0 + 2)))) :: [.int (iI p0), .ref (ad kst)])) (congrArg (fun z => F0 m 13 ls (va_rf z :: [.int (iI p0), .ref (ad kst)])) hzl) ?_
    refine z_callp (vx_runV (As := [.int (iI p0), .ref (ad (kver (w (801 + 3 * k0 + 2))))]) (rest := []) ⟨hx, hb, hml, hown, hts⟩ (cg_X2_maySee l hR (p0 := p0) (v0 := (w (801 + 3 * k0 + 2))) (by first | with_reducible assumption | omega | exact ⟨by omega, by omega⟩) (by first | with_reducible assumption | omega | exact ⟨by omega, by omega⟩) hVd) (cwV 2 hts (lw_V q287 q288 q289 q47 q290) rfl rfl rfl hd_X2_maySee ⟨Nat.le_of_ble_eq_true rfl, Nat.le_of_ble_eq_true rfl⟩) (z_preV hK hS (zN_le hAn hS) hR.st rfl rfl) rfl rfl hl.1 rfl (lv_room (Nat.le_of_ble_eq_true rfl)) dX2_opened_13 ⟨Nat.le_of_ble_eq_true rfl, Nat.le_of_ble_eq_true rfl⟩) hS (zN_le hAn hS) rfl rfl (fun locs hS => ?_)
    refine z_ifb_eq (b := !(zGn w (w (801 + 3 * k0 + 2))) && tw_sees w p0 (w (801 + 3 * k0 + 2))) (tgt := 26) hx hb dX2_opened_16 (by decide) (fun c_18 => ?_) (fun c_18 => ?_)
    · refine lv_null hx hb dX2_opened_26 ?_
      exact z_aret (r := none) hx hb hret (Or.inl ⟨_, rfl⟩) hlocks hS ⟨by rw [show tw_opens w k0 p0 = -1 from (if_pos c_1).trans (if_neg (by simpa [hgn] using c_18))]; rfl, (fun _ _ => rfl)⟩ (Nat.le_of_ble_eq_true rfl) (Nat.le_of_ble_eq_true rfl) dX2_opened_27
    · refine lv_aload_n hx hb dX2_opened_19 rfl (lv_at hl 1 rfl) ?_
      refine z_getN (k := 3) hx hb hts in_X13 hown hK (hR.lk (k := k0) (by first | with_reducible assumption | exact ⟨by omega, by omega⟩ | exact ⟨⟨by omega, by omega⟩, by omega, by omega⟩ | exact ⟨⟨⟨by omega, by omega⟩, by omega, by omega⟩, by first | assumption | omega⟩)) rfl (by decide) q1271 rfl (v := va_rf (zLv w ad k0)) rfl dX2_opened_20 ?_
      refine W.eq (g2 := F0 m 23 ls (.ref (ad (kver (w (801 + 3 * k0 + 2)))) :: [])) (congrArg (fun z => F0 m 23 ls (va_rf z :: [])) hzl) ?_
      refine lv_goto (tgt := 27) hx hb dX2_opened_23 (by decide) ?_
      exact z_aret (r := some (ad (kver (w (801 + 3 * k0 + 2))))) hx hb hret (Or.inl ⟨_, rfl⟩) hlocks hS ⟨by rw [show tw_opens w k0 p0 = w (801 + 3 * k0 + 2) from (if_pos c_1).trans (if_pos (by simpa [hgn] using c_18)), zbo_nat (by omega)], (fun _ _ => rfl)⟩ (Nat.le_of_ble_eq_true rfl) (Nat.le_of_ble_eq_true rfl) dX2_opened_27
