set_option maxRecDepth 100000
/-! THE STORE's heap, as a picture of the reference's row -/
/-- what stands in a store: itself; a row, its list, the list's array (0 documents, 1 versions, 2 links, 3 + d the branches of d); a document, its rights; a branch, its copy, the copy's values; a version, its values; a link -/
abbrev zKey : Type := Nat × Int × Int
abbrev kst : zKey := (0, 0, 0)
abbrev krow (l : Int) : zKey := (1, l, 0)
abbrev kal (l : Int) : zKey := (2, l, 0)
abbrev kar (l : Int) : zKey := (3, l, 0)
abbrev kdoc (d : Int) : zKey := (4, d, 0)
abbrev krt (d : Int) : zKey := (5, d, 0)
abbrev kbr (d b : Int) : zKey := (6, d, b)
abbrev kcy (d b : Int) : zKey := (7, d, b)
abbrev kcv (d b : Int) : zKey := (8, d, b)
abbrev kver (v : Int) : zKey := (9, v, 0)
abbrev kvv (v : Int) : zKey := (10, v, 0)
abbrev klk (k : Int) : zKey := (11, k, 0)
def zLn (w : Int → Int) (l : Int) : Int := if l = 0 then w 2 else if l = 1 then w 3 else if l = 2 then w 4 else w (5 + 32 * (l - 3) + 1)
def zMost (l : Int) : Int := if l = 0 then 8 else if l = 1 then 60 else if l = 2 then 24 else 3
def zLk (l i : Int) : zKey := if l = 0 then kdoc i else if l = 1 then kver i else if l = 2 then klk i else kbr (l - 3) i
abbrev zLe (ad : zKey → Nat) (l : Int) : Nat → Nat := fun i => ad (zLk l (i : Int))
def zOg (w : Int → Int) (ad : zKey → Nat) (d b : Int) : Option Nat := if w (5 + 32 * d + 8 + 8 * b) = -1 then none else some (ad (kver (w (5 + 32 * d + 8 + 8 * b))))
def zCy (w : Int → Int) (ad : zKey → Nat) (d b : Int) : Option Nat := if w (5 + 32 * d + 8 + 8 * b + 1) = 0 then none else some (ad (kcy d b))
def zRt (w : Int → Int) (d : Int) : Int → Int := fun p => if p = w (5 + 32 * d) then 2 else w (5 + 32 * d + 2 + p)
def zLv (w : Int → Int) (ad : zKey → Nat) (k : Int) : Option Nat := if w (801 + 3 * k + 1) = 0 then some (ad (kver (w (801 + 3 * k + 2)))) else none
def zLt (w : Int → Int) (k : Int) : Int := if w (801 + 3 * k + 1) = 0 then w (261 + 9 * w (801 + 3 * k + 2)) else w (801 + 3 * k + 2)
/-- gone or not -/
def zGn (w : Int → Int) (v : Int) : Bool := decide (¬ w (261 + 9 * v + 8) = 1)
def zlive (w : Int → Int) (cp : Int → Nat) : zKey → Prop
  | (0, i, j) => i = 0 ∧ j = 0
  | (1, l, j) => (0 ≤ l ∧ l < 3 + w 2) ∧ j = 0
  | (2, l, j) => (0 ≤ l ∧ l < 3 + w 2) ∧ j = 0
  | (3, l, j) => ((0 ≤ l ∧ l < 3 + w 2) ∧ 0 < cp l) ∧ j = 0
  | (4, d, j) => (0 ≤ d ∧ d < w 2) ∧ j = 0
  | (5, d, j) => (0 ≤ d ∧ d < w 2) ∧ j = 0
  | (6, d, b) => (0 ≤ d ∧ d < w 2) ∧ 0 ≤ b ∧ b < w (5 + 32 * d + 1)
  | (7, d, b) => ((0 ≤ d ∧ d < w 2) ∧ 0 ≤ b ∧ b < w (5 + 32 * d + 1)) ∧ w (5 + 32 * d + 8 + 8 * b + 1) ≠ 0
  | (8, d, b) => ((0 ≤ d ∧ d < w 2) ∧ 0 ≤ b ∧ b < w (5 + 32 * d + 1)) ∧ w (5 + 32 * d + 8 + 8 * b + 1) ≠ 0
  | (9, v, j) => (0 ≤ v ∧ v < w 3) ∧ j = 0
  | (10, v, j) => (0 ≤ v ∧ v < w 3) ∧ j = 0
  | (11, k, j) => (0 ≤ k ∧ k < w 4) ∧ j = 0
  | (_ + 12, _, _) => False
def zcont (G : zG) (w : Int → Int) (ad : zKey → Nat) (mc : Int → Int) (cp : Int → Nat) (cl : Bool) : zKey → va_E
  | (0, _, _) => .inr (1, [.ref (ad (krow 0)), .ref (ad (krow 1)), .ref (ad (krow 2)), .int (iI (w 0)), .int (iI (w 1)), .int (iI (bI cl))])
  | (1, l, _) => .inr (2, [.ref (ad (kal l)), .int (iI (zMost l))])
  | (2, l, _) => .inr (35, [.int (iI (mc l)), .ref (ad (kar l)), .int (iI (zLn w l))])
  | (3, l, _) => .inl (G.2.1.2.1, cp l, .inr (.inr (.inr (.inr (zEf (zLn w l) (zLe ad l))))))
  | (4, d, _) => .inr (13, [.int (iI (w (5 + 32 * d))), .ref (ad (krt d)), .ref (ad (krow (3 + d)))])
  | (5, d, _) => .inl (G.2.1.1, 6, .inl (zF (zRt w d)))
  | (6, d, b) => .inr (9, [va_rf (zOg w ad d b), va_rf (zCy w ad d b)])
  | (7, d, b) => .inr (14, [.ref (ad (kcv d b)), .ref (ad (kver (w (5 + 32 * d + 8 + 8 * b + 3)))), .int (iI (w (5 + 32 * d + 8 + 8 * b + 1) - 1)), .int (iI (w (5 + 32 * d + 8 + 8 * b + 2)))])
  | (8, d, b) => .inl (G.2.1.1, 4, .inl (zF (fun j => w (5 + 32 * d + 8 + 8 * b + 4 + j))))
  | (9, v, _) => .inr (11, [.ref (ad (kvv v)), .int (iI v), .int (iI (w (261 + 9 * v))), .int (iI (w (261 + 9 * v + 1))), .int (iI (w (261 + 9 * v + 2))), .int (iI (w (261 + 9 * v + 3))), .int (iI (bI (zGn w v)))])
  | (10, v, _) => .inl (G.2.1.1, 4, .inl (zF (fun j => w (261 + 9 * v + 4 + j))))
  | (11, k, _) => .inr (12, [.int (iI (w (801 + 3 * k))), .int (iI (zLt w k)), .int (iI (w (801 + 3 * k + 1))), va_rf (zLv w ad k)])
  | (_ + 12, _, _) => .inr (0, [])
/-- the heap holds a store that stands for the row w; its cells lie in F -/
def zR (G : zG) (w : Int → Int) (ad : zKey → Nat) (mc : Int → Int) (cp : Int → Nat) (cl : Bool) (F : Nat → Prop) (H : Heap) : Prop :=
  (∀ k, zlive w cp k → va_at G.1 zcl (ad k, zcont G w ad mc cp cl k) H) ∧
  (∀ k k', zlive w cp k → zlive w cp k' → ad k = ad k' → k = k') ∧
  (∀ k, zlive w cp k → F (ad k)) ∧
  (¬ F G.2.2.1) ∧
  (∀ l, 0 ≤ l → l < 3 + w 2 → (zLn w l ≤ cp l ∧ cp l ≤ 110) ∧ (cp l = 0 → ad (kar l) = G.2.2.1)) ∧
  (tD w ∧ tV w ∧ tL w ∧ tB w ∧ ∀ k, inR (w k))
theorem zR.at_ {G : zG} {w : Int → Int} {ad : zKey → Nat} {mc : Int → Int} {cp : Int → Nat} {cl : Bool} {F : Nat → Prop} {H : Heap} (h : zR G w ad mc cp cl F H) : ∀ k, zlive w cp k → va_at G.1 zcl (ad k, zcont G w ad mc cp cl k) H := h.1
theorem zR.inj {G : zG} {w : Int → Int} {ad : zKey → Nat} {mc : Int → Int} {cp : Int → Nat} {cl : Bool} {F : Nat → Prop} {H : Heap} (h : zR G w ad mc cp cl F H) : ∀ k k', zlive w cp k → zlive w cp k' → ad k = ad k' → k = k' := h.2.1
theorem zR.fp {G : zG} {w : Int → Int} {ad : zKey → Nat} {mc : Int → Int} {cp : Int → Nat} {cl : Bool} {F : Nat → Prop} {H : Heap} (h : zR G w ad mc cp cl F H) : ∀ k, zlive w cp k → F (ad k) := h.2.2.1
theorem zR.nE {G : zG} {w : Int → Int} {ad : zKey → Nat} {mc : Int → Int} {cp : Int → Nat} {cl : Bool} {F : Nat → Prop} {H : Heap} (h : zR G w ad mc cp cl F H) : ¬ F G.2.2.1 := h.2.2.2.1
theorem zR.cap {G : zG} {w : Int → Int} {ad : zKey → Nat} {mc : Int → Int} {cp : Int → Nat} {cl : Bool} {F : Nat → Prop} {H : Heap} (h : zR G w ad mc cp cl F H) : ∀ l, 0 ≤ l → l < 3 + w 2 → (zLn w l ≤ cp l ∧ cp l ≤ 110) ∧ (cp l = 0 → ad (kar l) = G.2.2.1) := h.2.2.2.2.1
theorem zR.n {G : zG} {w : Int → Int} {ad : zKey → Nat} {mc : Int → Int} {cp : Int → Nat} {cl : Bool} {F : Nat → Prop} {H : Heap} (h : zR G w ad mc cp cl F H) : tD w ∧ tV w ∧ tL w ∧ tB w ∧ ∀ k, inR (w k) := h.2.2.2.2.2
theorem zR.lt {G : zG} {w : Int → Int} {ad : zKey → Nat} {mc : Int → Int} {cp : Int → Nat} {cl : Bool} {F : Nat → Prop} {H : Heap} (h : zR G w ad mc cp cl F H) {k : zKey} (hk : zlive w cp k) : ad k < H.size := (h.at_ k hk).lt
theorem zR.kept {G : zG} {w : Int → Int} {ad : zKey → Nat} {mc : Int → Int} {cp : Int → Nat} {cl : Bool} {F : Nat → Prop} {H H1 : Heap} (h : zR G w ad mc cp cl F H) (hq : ∀ k, zlive w cp k → H1[ad k]? = H[ad k]?) : zR G w ad mc cp cl F H1 :=
  ⟨fun k hk => va_at.kept (h.at_ k hk) (hq k hk), h.inj, h.fp, h.nE, h.cap, h.n⟩
theorem zR.grow {G : zG} {w : Int → Int} {ad : zKey → Nat} {mc : Int → Int} {cp : Int → Nat} {cl : Bool} {F : Nat → Prop} {H H1 : Heap} (h : zR G w ad mc cp cl F H) (hq : ∀ q : Nat, q < H.size → H1[q]? = H[q]?) : zR G w ad mc cp cl F H1 :=
  h.kept fun k hk => hq _ (h.lt hk)
theorem zR.put {G : zG} {w : Int → Int} {ad : zKey → Nat} {mc : Int → Int} {cp : Int → Nat} {cl : Bool} {F : Nat → Prop} {H H1 : Heap} (h : zR G w ad mc cp cl F H) {a : Nat} (ha : ¬ F a) (hq : ∀ q : Nat, q ≠ a → H1[q]? = H[q]?) : zR G w ad mc cp cl F H1 :=
  h.kept fun k hk => hq _ fun e => ha (e ▸ h.fp k hk)
theorem zR.mono {G : zG} {w : Int → Int} {ad : zKey → Nat} {mc : Int → Int} {cp : Int → Nat} {cl : Bool} {F F' : Nat → Prop} {H : Heap} (h : zR G w ad mc cp cl F H) (hF : ∀ q, F q → F' q) (hE : ¬ F' G.2.2.1) : zR G w ad mc cp cl F' H :=
  ⟨h.at_, h.inj, fun k hk => hF _ (h.fp k hk), hE, h.cap, h.n⟩
theorem z_eD {G : zG} {A : Nat → Prop} {s : State} {H : Heap} {locs : List Loc} (hK : zK G A s) (hS : va_S A s.heap H locs) : zAO G H G.2.2.1 0 (fun _ => none) :=
  (hK.2.2.2.2.2.2.kept hS.2.1).2.1
section ZRa
variable {G : zG} {w : Int → Int} {ad : zKey → Nat} {mc : Int → Int} {cp : Int → Nat} {cl : Bool} {F : Nat → Prop} {H : Heap}
theorem zR.st (h : zR G w ad mc cp cl F H) : zO G H (ad kst) 1 [.ref (ad (krow 0)), .ref (ad (krow 1)), .ref (ad (krow 2)), .int (iI (w 0)), .int (iI (w 1)), .int (iI (bI cl))] := h.at_ kst ⟨rfl, rfl⟩
theorem zR.row (h : zR G w ad mc cp cl F H) {l : Int} (hl : 0 ≤ l ∧ l < 3 + w 2) : zO G H (ad (krow l)) 2 [.ref (ad (kal l)), .int (iI (zMost l))] := h.at_ (krow l) ⟨hl, rfl⟩
theorem zR.al (h : zR G w ad mc cp cl F H) {l : Int} (hl : 0 ≤ l ∧ l < 3 + w 2) : zO G H (ad (kal l)) 35 [.int (iI (mc l)), .ref (ad (kar l)), .int (iI (zLn w l))] := h.at_ (kal l) ⟨hl, rfl⟩
theorem zR.doc (h : zR G w ad mc cp cl F H) {d : Int} (hd : 0 ≤ d ∧ d < w 2) : zO G H (ad (kdoc d)) 13 [.int (iI (w (5 + 32 * d))), .ref (ad (krt d)), .ref (ad (krow (3 + d)))] := h.at_ (kdoc d) ⟨hd, rfl⟩
theorem zR.rt (h : zR G w ad mc cp cl F H) {d : Int} (hd : 0 ≤ d ∧ d < w 2) : zAI G H (ad (krt d)) 6 (zF (zRt w d)) := h.at_ (krt d) ⟨hd, rfl⟩
theorem zR.br (h : zR G w ad mc cp cl F H) {d b : Int} (hd : (0 ≤ d ∧ d < w 2) ∧ 0 ≤ b ∧ b < w (5 + 32 * d + 1)) : zO G H (ad (kbr d b)) 9 [va_rf (zOg w ad d b), va_rf (zCy w ad d b)] := h.at_ (kbr d b) hd
theorem zR.cy (h : zR G w ad mc cp cl F H) {d b : Int} (hd : ((0 ≤ d ∧ d < w 2) ∧ 0 ≤ b ∧ b < w (5 + 32 * d + 1)) ∧ w (5 + 32 * d + 8 + 8 * b + 1) ≠ 0) : zO G H (ad (kcy d b)) 14 [.ref (ad (kcv d b)), .ref (ad (kver (w (5 + 32 * d + 8 + 8 * b + 3)))), .int (iI (w (5 + 32 * d + 8 + 8 * b + 1) - 1)), .int (iI (w (5 + 32 * d + 8 + 8 * b + 2)))] := h.at_ (kcy d b) hd
theorem zR.cv (h : zR G w ad mc cp cl F H) {d b : Int} (hd : ((0 ≤ d ∧ d < w 2) ∧ 0 ≤ b ∧ b < w (5 + 32 * d + 1)) ∧ w (5 + 32 * d + 8 + 8 * b + 1) ≠ 0) : zAI G H (ad (kcv d b)) 4 (zF (fun j => w (5 + 32 * d + 8 + 8 * b + 4 + j))) := h.at_ (kcv d b) hd
theorem zR.ver (h : zR G w ad mc cp cl F H) {v : Int} (hv : 0 ≤ v ∧ v < w 3) : zO G H (ad (kver v)) 11 [.ref (ad (kvv v)), .int (iI v), .int (iI (w (261 + 9 * v))), .int (iI (w (261 + 9 * v + 1))), .int (iI (w (261 + 9 * v + 2))), .int (iI (w (261 + 9 * v + 3))), .int (iI (bI (zGn w v)))] := h.at_ (kver v) ⟨hv, rfl⟩
theorem zR.vv (h : zR G w ad mc cp cl F H) {v : Int} (hv : 0 ≤ v ∧ v < w 3) : zAI G H (ad (kvv v)) 4 (zF (fun j => w (261 + 9 * v + 4 + j))) := h.at_ (kvv v) ⟨hv, rfl⟩
theorem zR.lk (h : zR G w ad mc cp cl F H) {k : Int} (hk : 0 ≤ k ∧ k < w 4) : zO G H (ad (klk k)) 12 [.int (iI (w (801 + 3 * k))), .int (iI (zLt w k)), .int (iI (w (801 + 3 * k + 1))), va_rf (zLv w ad k)] := h.at_ (klk k) ⟨hk, rfl⟩
theorem zR.ln (h : zR G w ad mc cp cl F H) {l : Int} (hl : 0 ≤ l ∧ l < 3 + w 2) : 0 ≤ zLn w l ∧ zLn w l ≤ 60 := by
  obtain ⟨h2, h3, h4, h5, -⟩ := h.n
  have h5 := h5 (l - 3)
  unfold zLn
  split
  · omega
  · split
    · omega
    · split
      · omega
      · have := h5 (by omega) (by omega)
        omega
theorem zR.live (h : zR G w ad mc cp cl F H) {l : Int} (hl : 0 ≤ l ∧ l < 3 + w 2) {i : Nat} (hi : (i : Int) < zLn w l) : zlive w cp (zLk l i) := by
  unfold zLn at hi
  unfold zLk
  split
  · rename_i q
    rw [if_pos q] at hi
    exact ⟨⟨by omega, hi⟩, rfl⟩
  · rename_i q
    rw [if_neg q] at hi
    split
    · rename_i q
      rw [if_pos q] at hi
      exact ⟨⟨by omega, hi⟩, rfl⟩
    · rename_i q
      rw [if_neg q] at hi
      split
      · rename_i q
        rw [if_pos q] at hi
        exact ⟨⟨by omega, hi⟩, rfl⟩
      · rename_i q
        rw [if_neg q] at hi
        exact ⟨⟨by omega, by omega⟩, by omega, hi⟩
theorem zR.el (h : zR G w ad mc cp cl F H) {l : Int} (hl : 0 ≤ l ∧ l < 3 + w 2) (i : Nat) (hi : (i : Int) < zLn w l) : zEl G H (zLe ad l i) := by
  have hv := h.live hl hi
  have ha := h.at_ _ hv
  show zEl G H (ad (zLk l i))
  unfold zLk at ha ⊢
  split <;> rename_i q1
  · rw [if_pos q1] at ha; exact ⟨13, _, _, rfl, ha⟩
  · rw [if_neg q1] at ha
    split <;> rename_i q2
    · rw [if_pos q2] at ha; exact ⟨11, _, _, rfl, ha⟩
    · rw [if_neg q2] at ha
      split <;> rename_i q3
      · rw [if_pos q3] at ha; exact ⟨12, _, _, rfl, ha⟩
      · rw [if_neg q3] at ha; exact ⟨9, _, _, rfl, ha⟩
theorem zLk_al {l l' i : Int} : zLk l i ≠ kal l' := by unfold zLk; split <;> (try split) <;> (try split) <;> exact fun h => by cases h
theorem zR.ela (h : zR G w ad mc cp cl F H) {l : Int} (hl : 0 ≤ l ∧ l < 3 + w 2) (i : Nat) (hi : (i : Int) < zLn w l) : zLe ad l i ≠ ad (kal l) := fun e => zLk_al (h.inj _ (kal l) (h.live hl hi) ⟨hl, rfl⟩ e)
theorem zEf_0 (el : Nat → Nat) : zEf 0 el = fun _ => none := by
  funext i
  exact if_neg (by omega)
theorem zR.lst (h : zR G w ad mc cp cl F H) (he : zAO G H G.2.2.1 0 (fun _ => none)) {l : Int} (hl : 0 ≤ l ∧ l < 3 + w 2) : zLst G H (ad (kal l)) (ad (kar l)) (mc l) (zLn w l) (cp l) (zLe ad l) := by
  have hn := h.ln hl
  obtain ⟨⟨c1, c2⟩, c3⟩ := h.cap l hl.1 hl.2
  refine ⟨h.al hl, ?_, ⟨hn.1, c1, by omega⟩, c3, ?_⟩
  · by_cases hc : cp l = 0
    · rw [c3 hc, hc, show zLn w l = 0 by omega, zEf_0]
      exact he
    · exact h.at_ (kar l) ⟨⟨hl, by omega⟩, rfl⟩
  · intro e
    by_cases hc : cp l = 0
    · have := h.fp (kal l) ⟨hl, rfl⟩
      rw [e, c3 hc] at this
      exact h.nE this
    · have := h.inj (kal l) (kar l) ⟨hl, rfl⟩ ⟨⟨hl, by omega⟩, rfl⟩ e
      cases this
theorem zR.rowD (h : zR G w ad mc cp cl F H) : zO G H (ad (krow 0)) 2 [.ref (ad (kal 0)), .int (iI 8)] := h.row ⟨by omega, by have := h.n.1; omega⟩
theorem zR.rowV (h : zR G w ad mc cp cl F H) : zO G H (ad (krow 1)) 2 [.ref (ad (kal 1)), .int (iI 60)] := h.row ⟨by omega, by have := h.n.1; omega⟩
theorem zR.rowL (h : zR G w ad mc cp cl F H) : zO G H (ad (krow 2)) 2 [.ref (ad (kal 2)), .int (iI 24)] := h.row ⟨by omega, by have := h.n.1; omega⟩
theorem zMost_b {d : Int} (hd : 0 ≤ d) : zMost (3 + d) = 3 := by
  unfold zMost
  rw [if_neg (by omega), if_neg (by omega), if_neg (by omega)]
theorem zLn_b {w : Int → Int} {d : Int} (hd : 0 ≤ d) : zLn w (3 + d) = w (5 + 32 * d + 1) := by
  unfold zLn
  rw [if_neg (by omega), if_neg (by omega), if_neg (by omega), show 3 + d - 3 = d by omega]
theorem zLk_b {d i : Int} (hd : 0 ≤ d) : zLk (3 + d) i = kbr d i := by
  unfold zLk
  rw [if_neg (by omega), if_neg (by omega), if_neg (by omega), show 3 + d - 3 = d by omega]
theorem zLe_b {ad : zKey → Nat} {d : Int} (hd : 0 ≤ d) : zLe ad (3 + d) = fun i : Nat => ad (kbr d i) := by
  funext i
  exact congrArg ad (zLk_b hd)
theorem zR.rowB (h : zR G w ad mc cp cl F H) {d : Int} (hd : 0 ≤ d ∧ d < w 2) : zO G H (ad (krow (3 + d))) 2 [.ref (ad (kal (3 + d))), .int (iI 3)] := by
  have := h.row (l := 3 + d) ⟨by omega, by omega⟩
  rw [zMost_b hd.1] at this
  exact this
theorem zR.lstD (h : zR G w ad mc cp cl F H) (he : zAO G H G.2.2.1 0 (fun _ => none)) : zLst G H (ad (kal 0)) (ad (kar 0)) (mc 0) (w 2) (cp 0) (fun i : Nat => ad (kdoc i)) := h.lst he (l := 0) ⟨by omega, by have := h.n.1; omega⟩
theorem zR.lstV (h : zR G w ad mc cp cl F H) (he : zAO G H G.2.2.1 0 (fun _ => none)) : zLst G H (ad (kal 1)) (ad (kar 1)) (mc 1) (w 3) (cp 1) (fun i : Nat => ad (kver i)) := h.lst he (l := 1) ⟨by omega, by have := h.n.1; omega⟩
theorem zR.lstL (h : zR G w ad mc cp cl F H) (he : zAO G H G.2.2.1 0 (fun _ => none)) : zLst G H (ad (kal 2)) (ad (kar 2)) (mc 2) (w 4) (cp 2) (fun i : Nat => ad (klk i)) := h.lst he (l := 2) ⟨by omega, by have := h.n.1; omega⟩
theorem zR.lstB (h : zR G w ad mc cp cl F H) (he : zAO G H G.2.2.1 0 (fun _ => none)) {d : Int} (hd : 0 ≤ d ∧ d < w 2) : zLst G H (ad (kal (3 + d))) (ad (kar (3 + d))) (mc (3 + d)) (w (5 + 32 * d + 1)) (cp (3 + d)) (fun i : Nat => ad (kbr d i)) := by
  have := h.lst he (l := 3 + d) ⟨by omega, by omega⟩
  rw [zLn_b hd.1, zLe_b hd.1] at this
  exact this
end ZRa
theorem zad_n {ad : zKey → Nat} (k : Int → zKey) {i : Int} (h : 0 ≤ i) : ad (k ((i.toNat : Nat) : Int)) = ad (k i) := by rw [show ((i.toNat : Nat) : Int) = i by omega]
theorem zCy_some {w : Int → Int} {ad : zKey → Nat} {d b : Int} {x : Nat} (h : zCy w ad d b = some x) : w (5 + 32 * d + 8 + 8 * b + 1) ≠ 0 ∧ x = ad (kcy d b) := by
  unfold zCy at h
  split at h
  · cases h
  · exact ⟨by assumption, (Option.some.inj h).symm⟩
theorem zCy_none {w : Int → Int} {ad : zKey → Nat} {d b : Int} (h : zCy w ad d b = none) : w (5 + 32 * d + 8 + 8 * b + 1) = 0 := by
  unfold zCy at h
  split at h
  · assumption
  · cases h
theorem zOg_some {w : Int → Int} {ad : zKey → Nat} {d b : Int} {x : Nat} (h : zOg w ad d b = some x) : w (5 + 32 * d + 8 + 8 * b) ≠ -1 ∧ x = ad (kver (w (5 + 32 * d + 8 + 8 * b))) := by
  unfold zOg at h
  split at h
  · cases h
  · exact ⟨by assumption, (Option.some.inj h).symm⟩
theorem zOg_none {w : Int → Int} {ad : zKey → Nat} {d b : Int} (h : zOg w ad d b = none) : w (5 + 32 * d + 8 + 8 * b) = -1 := by
  unfold zOg at h
  split at h
  · assumption
  · cases h
theorem zR.same {G : zG} {w : Int → Int} {ad : zKey → Nat} {mc : Int → Int} {cp : Int → Nat} {cl : Bool} {F : Nat → Prop} {H : Heap} (h : zR G w ad mc cp cl F H) {k k' : zKey} (hk : zlive w cp k) (hk' : zlive w cp k') : ad k = ad k' ↔ k = k' := ⟨h.inj k k' hk hk', fun e => e ▸ rfl⟩
