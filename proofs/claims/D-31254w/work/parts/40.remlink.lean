set_option maxRecDepth 100000
def zsg (k0 : Int) (k : zKey) : zKey := if k.1 = 11 ∧ k0 ≤ k.2.1 then (11, k.2.1 + 1, k.2.2) else k
theorem zsg_n {k0 : Int} {t : Nat} {i j : Int} (h : t ≠ 11) : zsg k0 (t, i, j) = (t, i, j) := if_neg (fun q => h q.1)
theorem zsg_lo {k0 i j : Int} (h : i < k0) : zsg k0 (11, i, j) = (11, i, j) := if_neg (fun q => absurd q.2 (by show ¬ k0 ≤ i; omega))
theorem zsg_hi {k0 i j : Int} (h : k0 ≤ i) : zsg k0 (11, i, j) = (11, i + 1, j) := if_pos ⟨rfl, h⟩
theorem zR.removeLink {G : zG} {w w' : Int → Int} {ad : zKey → Nat} {mc : Int → Int} {cp : Int → Nat} {cl : Bool} {F : Nat → Prop} {H H1 : Heap} (h : zR G w ad mc cp cl F H) {k0 : Int} {el1 : Nat → Nat} (hk0 : 0 ≤ k0 ∧ k0 < w 4) (hLk : tLk w)
    (hw : ∀ c : Int, c < 801 → c ≠ 4 → w' c = w c) (hin : ∀ k, inR (w' k)) (hn : w' 4 = w 4 - 1) (hlo : ∀ k : Int, 0 ≤ k → k < k0 → w' (801 + 3 * k) = w (801 + 3 * k) ∧ w' (801 + 3 * k + 1) = w (801 + 3 * k + 1) ∧ w' (801 + 3 * k + 2) = w (801 + 3 * k + 2))
    (hhi : ∀ k : Int, k0 ≤ k → k < w 4 - 1 → w' (801 + 3 * k) = w (801 + 3 * (k + 1)) ∧ w' (801 + 3 * k + 1) = w (801 + 3 * (k + 1) + 1) ∧ w' (801 + 3 * k + 2) = w (801 + 3 * (k + 1) + 2))
    (hL : zLst G H1 (ad (kal 2)) (ad (kar 2)) (mc 2 + 1) (w 4 - 1) (cp 2) el1) (hel : ∀ i : Nat, (i : Int) < w 4 - 1 → el1 i = ad (zsg k0 (klk i))) (hq : ∀ k, zlive w cp k → k ≠ kal 2 → k ≠ kar 2 → H1[ad k]? = H[ad k]?) :
    zR G w' (fun k => ad (zsg k0 k)) (zu1 mc 2 (mc 2 + 1)) cp cl F H1 := by
  obtain ⟨hD, hV, hL_, hB, -⟩ := h.n
  have e2 : w' 2 = w 2 := hw 2 (by omega) (by omega)
  have e3 : w' 3 = w 3 := hw 3 (by omega) (by omega)
  have eb : ∀ d8 : Int, 0 ≤ d8 → d8 < w 2 → w' (5 + 32 * d8 + 1) = w (5 + 32 * d8 + 1) := fun d8 h8 h9 => hw _ (by omega) (by omega)
  have hln : ∀ l8 : Int, l8 ≠ 2 → 0 ≤ l8 → l8 < 3 + w 2 → zLn w' l8 = zLn w l8 := fun l8 x1 x2 x3 => by
    unfold zLn
    by_cases q0 : l8 = 0
    · rw [if_pos q0, if_pos q0]; exact e2
    · rw [if_neg q0, if_neg q0]
      by_cases q1 : l8 = 1
      · rw [if_pos q1, if_pos q1]; exact e3
      · rw [if_neg q1, if_neg q1, if_neg x1, if_neg x1]; exact eb _ (by omega) (by omega)
  have hlv : ∀ k, zlive w' cp k → zlive w cp (zsg k0 k) := fun k hk => by
    match k, hk with
    | (0, d8, b8), hk =>
      rw [zsg_n (t := 0) (by decide)]
      simp only [zlive] at hk ⊢
      exact hk
    | (1, d8, b8), hk =>
      rw [zsg_n (t := 1) (by decide)]
      simp only [zlive] at hk ⊢
      omega
    | (2, d8, b8), hk =>
      rw [zsg_n (t := 2) (by decide)]
      simp only [zlive] at hk ⊢
      omega
    | (3, d8, b8), hk =>
      rw [zsg_n (t := 3) (by decide)]
      simp only [zlive] at hk ⊢
      omega
    | (4, d8, b8), hk =>
      rw [zsg_n (t := 4) (by decide)]
      simp only [zlive] at hk ⊢
      omega
    | (5, d8, b8), hk =>
      rw [zsg_n (t := 5) (by decide)]
      simp only [zlive] at hk ⊢
      omega
    | (6, d8, b8), hk =>
      rw [zsg_n (t := 6) (by decide)]
      simp only [zlive] at hk ⊢
      have y8 := eb d8 (by omega) (by omega)
      omega
    | (7, d8, b8), hk =>
      rw [zsg_n (t := 7) (by decide)]
      simp only [zlive] at hk ⊢
      have y8 := eb d8 (by omega) (by omega)
      have z8 := hB d8 (by omega) (by omega)
      exact ⟨by omega, by rw [← hw _ (by omega) (by omega)]; exact hk.2⟩
    | (8, d8, b8), hk =>
      rw [zsg_n (t := 8) (by decide)]
      simp only [zlive] at hk ⊢
      have y8 := eb d8 (by omega) (by omega)
      have z8 := hB d8 (by omega) (by omega)
      exact ⟨by omega, by rw [← hw _ (by omega) (by omega)]; exact hk.2⟩
    | (9, d8, b8), hk =>
      rw [zsg_n (t := 9) (by decide)]
      simp only [zlive] at hk ⊢
      omega
    | (10, d8, b8), hk =>
      rw [zsg_n (t := 10) (by decide)]
      simp only [zlive] at hk ⊢
      omega
    | (11, i8, j8), hk =>
      have hk2 : (0 ≤ i8 ∧ i8 < w' 4) ∧ j8 = 0 := hk
      by_cases q : i8 < k0
      · rw [zsg_lo q]
        exact ⟨⟨by omega, by omega⟩, hk2.2⟩
      · rw [zsg_hi (by omega)]
        exact ⟨⟨by omega, by omega⟩, hk2.2⟩
  have hne : ∀ k, zlive w' cp k → k ≠ kal 2 → k ≠ kar 2 → H1[ad (zsg k0 k)]? = H[ad (zsg k0 k)]? := fun k hk x1 x2 => by
    refine hq _ (hlv k hk) ?_ ?_
    · unfold zsg
      split
      · exact kne (Or.inl (by decide))
      · exact x1
    · unfold zsg
      split
      · exact kne (Or.inl (by decide))
      · exact x2
  refine ⟨fun k hk => ?_, fun k k' hk hk' e => ?_, fun k hk => h.fp _ (hlv k hk), h.nE, fun l x1 x2 => ?_, ⟨by unfold tD; omega, by unfold tV; omega, by unfold tL; omega, fun d8 x1 x2 => by rw [eb d8 x1 (by omega)]; exact hB d8 x1 (by omega), hin⟩⟩
  · show va_at G.1 zcl (ad (zsg k0 k), _) H1
    by_cases x1 : k = kal 2
    · subst x1
      rw [zsg_n (by decide)]
      show zO G H1 (ad (kal 2)) 35 [.int (iI (zu1 mc 2 (mc 2 + 1) 2)), .ref (ad (zsg k0 (kar 2))), .int (iI (w' 4))]
      rw [zu1_s, zsg_n (t := 3) (by decide), hn]
      exact hL.1
    · by_cases x2 : k = kar 2
      · subst x2
        rw [zsg_n (by decide)]
        show zAO G H1 (ad (kar 2)) (cp 2) (zEf (w' 4) (fun i : Nat => ad (zsg k0 (zLk 2 i))))
        rw [hn]
        refine zAO_congr hL.2.1 (fun i _ => ?_)
        unfold zEf
        split
        · exact congrArg some (hel i (by assumption))
        · rfl
      · have ha := va_at.kept (h.at_ _ (hlv k hk)) (hne k hk x1 x2)
        have hk9 := hlv k hk
        match k, hk, hk9, x1, x2, ha with
        | (0, d8, b8), hk, hk9, x1, x2, ha =>
          rw [zsg_n (t := 0) (by decide)] at hk9 ha ⊢
          exact zsm_at (w := w) (w' := w') (ad := ad) (ad' := fun k => ad (zsg k0 k)) (mc := mc) (mc' := zu1 mc 2 (mc 2 + 1)) (cp := cp) (cp' := cp) (0, d8, b8) ha ⟨hw _ (by omega) (by omega), hw _ (by omega) (by omega), congrArg ad (zsg_n (by decide)), congrArg ad (zsg_n (by decide)), congrArg ad (zsg_n (by decide))⟩
        | (1, d8, b8), hk, hk9, x1, x2, ha =>
          rw [zsg_n (t := 1) (by decide)] at hk9 ha ⊢
          exact zsm_at (w := w) (w' := w') (ad := ad) (ad' := fun k => ad (zsg k0 k)) (mc := mc) (mc' := zu1 mc 2 (mc 2 + 1)) (cp := cp) (cp' := cp) (1, d8, b8) ha (congrArg ad (zsg_n (by decide)))
        | (2, d8, b8), hk, hk9, x1, x2, ha =>
          rw [zsg_n (t := 2) (by decide)] at hk9 ha ⊢
          simp only [zlive] at hk9
          have k2 := knn2 x1
          exact zsm_at (w := w) (w' := w') (ad := ad) (ad' := fun k => ad (zsg k0 k)) (mc := mc) (mc' := zu1 mc 2 (mc 2 + 1)) (cp := cp) (cp' := cp) (2, d8, b8) ha ⟨hln _ (by omega) (by omega) (by omega), zu1_n (by omega), congrArg ad (zsg_n (by decide))⟩
        | (3, d8, b8), hk, hk9, x1, x2, ha =>
          rw [zsg_n (t := 3) (by decide)] at hk9 ha ⊢
          simp only [zlive] at hk9
          have k2 := knn2 x2
          have k3 : d8 ≠ 2 := by omega
          have kz : ∀ i8 : Int, zsg k0 (zLk d8 i8) = zLk d8 i8 := fun i8 => if_neg (fun q => zLk_ne11 (i := i8) (i' := (zLk d8 i8).2.1) (j' := (zLk d8 i8).2.2) k3 (by rw [← q.1]))
          exact zsm_at (w := w) (w' := w') (ad := ad) (ad' := fun k => ad (zsg k0 k)) (mc := mc) (mc' := zu1 mc 2 (mc 2 + 1)) (cp := cp) (cp' := cp) (3, d8, b8) ha ⟨hln _ (by omega) (by omega) (by omega), rfl, fun i8 _ => congrArg ad (kz _)⟩
        | (4, d8, b8), hk, hk9, x1, x2, ha =>
          rw [zsg_n (t := 4) (by decide)] at hk9 ha ⊢
          simp only [zlive] at hk9
          exact zsm_at (w := w) (w' := w') (ad := ad) (ad' := fun k => ad (zsg k0 k)) (mc := mc) (mc' := zu1 mc 2 (mc 2 + 1)) (cp := cp) (cp' := cp) (4, d8, b8) ha ⟨hw _ (by omega) (by omega), congrArg ad (zsg_n (by decide)), congrArg ad (zsg_n (by decide))⟩
        | (5, d8, b8), hk, hk9, x1, x2, ha =>
          rw [zsg_n (t := 5) (by decide)] at hk9 ha ⊢
          simp only [zlive] at hk9
          exact zsm_at (w := w) (w' := w') (ad := ad) (ad' := fun k => ad (zsg k0 k)) (mc := mc) (mc' := zu1 mc 2 (mc 2 + 1)) (cp := cp) (cp' := cp) (5, d8, b8) ha ⟨hw _ (by omega) (by omega), fun p8 z1 z2 => hw _ (by omega) (by omega)⟩
        | (6, d8, b8), hk, hk9, x1, x2, ha =>
          rw [zsg_n (t := 6) (by decide)] at hk9 ha ⊢
          simp only [zlive] at hk9
          have z8 := hB d8 (by omega) (by omega)
          exact zsm_at (w := w) (w' := w') (ad := ad) (ad' := fun k => ad (zsg k0 k)) (mc := mc) (mc' := zu1 mc 2 (mc 2 + 1)) (cp := cp) (cp' := cp) (6, d8, b8) ha ⟨(by unfold zOg; rw [hw _ (by omega) (by omega)]; beta_reduce; rw [zsg_n (t := 9) (by decide)]), (by unfold zCy; rw [hw _ (by omega) (by omega)]; beta_reduce; rw [zsg_n (t := 7) (by decide)])⟩
        | (7, d8, b8), hk, hk9, x1, x2, ha =>
          rw [zsg_n (t := 7) (by decide)] at hk9 ha ⊢
          simp only [zlive] at hk9
          have z8 := hB d8 (by omega) (by omega)
          exact zsm_at (w := w) (w' := w') (ad := ad) (ad' := fun k => ad (zsg k0 k)) (mc := mc) (mc' := zu1 mc 2 (mc 2 + 1)) (cp := cp) (cp' := cp) (7, d8, b8) ha ⟨hw _ (by omega) (by omega), hw _ (by omega) (by omega), hw _ (by omega) (by omega), congrArg ad (zsg_n (by decide)), congrArg ad (zsg_n (by decide))⟩
        | (8, d8, b8), hk, hk9, x1, x2, ha =>
          rw [zsg_n (t := 8) (by decide)] at hk9 ha ⊢
          simp only [zlive] at hk9
          have z8 := hB d8 (by omega) (by omega)
          exact zsm_at (w := w) (w' := w') (ad := ad) (ad' := fun k => ad (zsg k0 k)) (mc := mc) (mc' := zu1 mc 2 (mc 2 + 1)) (cp := cp) (cp' := cp) (8, d8, b8) ha (fun j8 z1 z2 => hw _ (by omega) (by omega))
        | (9, d8, b8), hk, hk9, x1, x2, ha =>
          rw [zsg_n (t := 9) (by decide)] at hk9 ha ⊢
          simp only [zlive] at hk9
          exact zsm_at (w := w) (w' := w') (ad := ad) (ad' := fun k => ad (zsg k0 k)) (mc := mc) (mc' := zu1 mc 2 (mc 2 + 1)) (cp := cp) (cp' := cp) (9, d8, b8) ha ⟨hw _ (by omega) (by omega), hw _ (by omega) (by omega), hw _ (by omega) (by omega), hw _ (by omega) (by omega), hw _ (by omega) (by omega), congrArg ad (zsg_n (by decide))⟩
        | (10, d8, b8), hk, hk9, x1, x2, ha =>
          rw [zsg_n (t := 10) (by decide)] at hk9 ha ⊢
          simp only [zlive] at hk9
          exact zsm_at (w := w) (w' := w') (ad := ad) (ad' := fun k => ad (zsg k0 k)) (mc := mc) (mc' := zu1 mc 2 (mc 2 + 1)) (cp := cp) (cp' := cp) (10, d8, b8) ha (fun j8 z1 z2 => hw _ (by omega) (by omega))
        | (11, d8, b8), hk, hk9, x1, x2, ha =>
          have hk2 : (0 ≤ d8 ∧ d8 < w' 4) ∧ b8 = 0 := hk
          by_cases q : d8 < k0
          · rw [zsg_lo q] at ha ⊢
            obtain ⟨a0, a1, a2⟩ := hlo d8 (by omega) q
            have a3 : zLt w' d8 = zLt w (d8) := by
              unfold zLt
              rw [a1, a2]
              split
              · have z8 := hLk (d8) (by omega) (by omega) (by assumption)
                exact hw _ (by omega) (by omega)
              · rfl
            have a4 : zLv w' (fun k => ad (zsg k0 k)) d8 = zLv w ad (d8) := by
              unfold zLv
              rw [a1, a2]
              beta_reduce
              rw [zsg_n (t := 9) (by decide)]
            show zO G H1 _ 12 [.int (iI (w' (801 + 3 * d8))), .int (iI (zLt w' d8)), .int (iI (w' (801 + 3 * d8 + 1))), va_rf (zLv w' (fun k => ad (zsg k0 k)) d8)]
            rw [a0, a1, a3, a4]
            exact ha
          · rw [zsg_hi (by omega)] at ha ⊢
            obtain ⟨a0, a1, a2⟩ := hhi d8 (by omega) (by omega)
            have a3 : zLt w' d8 = zLt w (d8 + 1) := by
              unfold zLt
              rw [a1, a2]
              split
              · have z8 := hLk (d8 + 1) (by omega) (by omega) (by assumption)
                exact hw _ (by omega) (by omega)
              · rfl
            have a4 : zLv w' (fun k => ad (zsg k0 k)) d8 = zLv w ad (d8 + 1) := by
              unfold zLv
              rw [a1, a2]
              beta_reduce
              rw [zsg_n (t := 9) (by decide)]
            show zO G H1 _ 12 [.int (iI (w' (801 + 3 * d8))), .int (iI (zLt w' d8)), .int (iI (w' (801 + 3 * d8 + 1))), va_rf (zLv w' (fun k => ad (zsg k0 k)) d8)]
            rw [a0, a1, a3, a4]
            exact ha
        | (n8 + 12, d8, b8), hk, hk9, x1, x2, ha => exact hk.elim
  · have e5 := h.inj _ _ (hlv k hk) (hlv k' hk') e
    unfold zsg at e5
    split at e5
    · split at e5
      · rename_i q1 q2
        have a1 := (Prod.mk.inj (Prod.mk.inj e5).2).1
        have a2 := (Prod.mk.inj (Prod.mk.inj e5).2).2
        exact Prod.ext (q1.1.trans q2.1.symm) (Prod.ext (by omega) a2)
      · rename_i q1 q2
        exfalso
        rw [← e5] at q2
        exact q2 ⟨rfl, by show k0 ≤ k.2.1 + 1; omega⟩
    · split at e5
      · rename_i q1 q2
        exfalso
        rw [e5] at q1
        exact q1 ⟨rfl, by show k0 ≤ k'.2.1 + 1; omega⟩
      · exact e5
  · have c9 := h.cap l x1 (by omega)
    refine ⟨⟨?_, c9.1.2⟩, fun q => by show ad (zsg k0 (kar l)) = _; rw [zsg_n (t := 3) (by decide)]; exact c9.2 q⟩
    by_cases e : l = 2
    · subst e
      have : zLn w' 2 = w' 4 := rfl
      have : zLn w 2 = w 4 := rfl
      omega
    · rw [hln l e x1 (by omega)]; exact c9.1.1
