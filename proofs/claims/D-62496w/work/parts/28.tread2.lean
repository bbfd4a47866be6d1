/-! the twin's reading against the reader's law -/
/-- what lies below n is kept, but for the slot that the new place hangs in -/
def kpT (A A' : Nat → Int → Int) (n : Int) : Prop := ∀ x, x < n → A' 105 x = A 105 x ∧ A' 106 x = A 106 x ∧ A' 107 x = A 107 x ∧ ∀ l, 0 ≤ l → l < 6 → A' 108 (6 * x + l) = A 108 (6 * x + l) ∧ A' 109 (6 * x + l) = A 109 (6 * x + l) ∧ A' 110 (6 * x + l) = if 0 < A 100 14 ∧ 6 * x + l = 6 * tTop A + A 116 (A 100 14 - 1) then n else A 110 (6 * x + l)
def kpS (A A' : Nat → Int → Int) (o : Nat) : Prop := ∀ i : Nat, i < o → A' 115 i = A 115 i ∧ A' 116 i = A 116 i
def kpB (A A' : Nat → Int → Int) (n m : Int) (bs : Tr) : Prop := (∀ x, x < n → x ≠ m → sameN A A' x) ∧ A' 105 m = A 105 m ∧ A' 106 m = A 106 m ∧ ∀ l, 0 ≤ l → l < 6 → hasL bs l = false → A' 108 (6 * m + l) = A 108 (6 * m + l) ∧ A' 109 (6 * m + l) = A 109 (6 * m + l) ∧ A' 110 (6 * m + l) = A 110 (6 * m + l)
/-- a fresh place n, hung, not yet open -/
def fh (A Y : Nat → Int → Int) (n kk ww : Int) : Prop :=
  fr A Y ∧ tB Y ∧ Y 100 4 = n + 1 ∧ Y 100 14 = A 100 14 ∧ (∀ i, Y 115 i = A 115 i ∧ Y 116 i = A 116 i) ∧ (Y 105 n = kk ∧ Y 106 n = ww ∧ Y 107 n = 0 ∧ ∀ l, 0 ≤ l → l < 6 → Y 108 (6 * n + l) = 0) ∧ kpT A Y n
theorem fh_bg1 {A : Nat → Int → Int} {n kk ww : Int} (h : tB A) (hp : A 100 2 < A 100 0) (hk : rg kk) (hw : rg ww) (hn : A 100 4 = n) (u0 : 0 ≤ n) (u1 : n < 300) (ht : 0 < A 100 14 → tTop A < n ∧ 0 ≤ A 116 (A 100 14 - 1) ∧ A 116 (A 100 14 - 1) < 6) : fh A (bg1 A kk ww) n kk ww := by
  refine ⟨fr_bg1 (fr.rf A), tB_bg1 h hp hk hw (by omega) (by omega), by rw [bg1_4, hn], bg1_sc _ _ _ (by decide) (by decide), fun i => ⟨bg1_ne _ _ _ _ (by decide) (by decide) (by decide) (by decide) (by decide) (by decide), bg1_ne _ _ _ _ (by decide) (by decide) (by decide) (by decide) (by decide) (by decide)⟩, ⟨?_, ?_, ?_, fun l l0 l1 => ?_⟩, fun x hx => ⟨?_, ?_, ?_, fun l l0 l1 => ⟨?_, ?_, ?_⟩⟩⟩
  all_goals rw [bg1_row _ _ _ _ _ (by decide), hn]
  · simp
  · simp
  · simp
  · rw [if_neg (by omega), if_pos (by omega)]
  · rw [if_neg (by omega), if_neg (by omega), if_neg (by omega), if_neg (by omega), if_neg (by omega)]
  · rw [if_neg (by omega), if_neg (by omega), if_neg (by omega), if_neg (by omega), if_neg (by omega)]
  · rw [if_neg (by omega), if_neg (by omega), if_neg (by omega), if_neg (by omega), if_neg (by omega)]
  · rw [if_neg (by omega), if_neg (by omega), if_neg (by omega), if_neg (by omega), if_neg (by omega)]
  · rw [if_neg (by omega), if_neg (by omega), if_neg (by omega), if_neg (by omega), if_neg (by omega)]
  · by_cases e : 0 < A 100 14 ∧ 6 * x + l = 6 * tTop A + A 116 (A 100 14 - 1)
    · rw [if_pos ⟨rfl, e⟩, if_pos e]
    · rw [if_neg (fun q => e q.2), if_neg e, if_neg (by omega), if_neg (by omega), if_neg (by omega), if_neg (by omega)]
theorem fh_sc {A Y Y' : Nat → Int → Int} {n kk ww : Int} (h : fh A Y n kk ww) (hB : tB Y') (hj : ∀ j i, j ≠ 100 → Y' j i = Y j i) (h4 : Y' 100 4 = Y 100 4) (h14 : Y' 100 14 = Y 100 14) (hf : fr A Y') : fh A Y' n kk ww := by
  obtain ⟨a1, a2, a3, a4, a5, ⟨a6, a7, a8, a9⟩, a10⟩ := h
  refine ⟨hf, hB, h4.trans a3, h14.trans a4, fun i => ⟨(hj _ _ (by decide)).trans (a5 i).1, (hj _ _ (by decide)).trans (a5 i).2⟩, ⟨(hj _ _ (by decide)).trans a6, (hj _ _ (by decide)).trans a7, (hj _ _ (by decide)).trans a8, fun l l0 l1 => (hj _ _ (by decide)).trans (a9 l l0 l1)⟩, fun x hx => ?_⟩
  rw [hj 105 _ (by decide), hj 106 _ (by decide), hj 107 _ (by decide)]
  refine ⟨(a10 x hx).1, (a10 x hx).2.1, (a10 x hx).2.2.1, fun l l0 l1 => ?_⟩
  rw [hj 108 _ (by decide), hj 109 _ (by decide), hj 110 _ (by decide)]
  exact (a10 x hx).2.2.2 l l0 l1
theorem fh_on {A Y : Nat → Int → Int} {n kk ww l m : Int} (h : fh A Y n kk ww) (hl : 0 ≤ l) : fh A (onA Y l m) n kk ww := fh_sc h (tB_on h.2.1 hl) (fun j i hj => on_ne _ _ _ _ hj) (on_sc _ _ _ (by decide) (by decide)) (on_sc _ _ _ (by decide) (by decide)) (fr_on h.1)
theorem fh_mu {A Y : Nat → Int → Int} {n kk ww c : Int} (h : fh A Y n kk ww) (hl : 0 ≤ c) : fh A (muF Y c) n kk ww := fh_sc h (tB_mu h.2.1 hl) (fun j i hj => mu_ne _ _ _ hj) (mu_sc _ _ (by decide) (by decide)) (mu_sc _ _ (by decide) (by decide)) (fr_mu h.1)
theorem fh_wr {A Y : Nat → Int → Int} {n kk ww c : Int} (h : fh A Y n kk ww) (hl : rg c) : fh A (tWr Y c) n kk ww := fh_sc h (tB_wr h.2.1 hl) (fun j i hj => wr_ne _ _ _ hj) (wr_sc _ _ (by decide)) (wr_sc _ _ (by decide)) (fr_wr h.1)
theorem fh_106 {A Y : Nat → Int → Int} {n kk ww w : Int} (h : fh A Y n kk ww) (hw : rg w) : fh A (au Y 106 n w) n kk w := by
  obtain ⟨a1, a2, a3, a4, a5, ⟨a6, a7, a8, a9⟩, a10⟩ := h
  refine ⟨fr_au a1 (by omega), tB_au a2 hw (by decide) (by decide), (au_ne _ _ _ _ (by decide)).trans a3, (au_ne _ _ _ _ (by decide)).trans a4, fun i => ⟨(au_ne _ _ _ _ (by decide)).trans (a5 i).1, (au_ne _ _ _ _ (by decide)).trans (a5 i).2⟩, ⟨(au_ne _ _ _ _ (by decide)).trans a6, au_same _ _ _ _, (au_ne _ _ _ _ (by decide)).trans a8, fun l l0 l1 => (au_ne _ _ _ _ (by decide)).trans (a9 l l0 l1)⟩, fun x hx => ?_⟩
  rw [au_ne _ _ _ _ (by decide), au_ni _ _ _ (by omega), au_ne _ _ _ _ (by decide)]
  refine ⟨(a10 x hx).1, (a10 x hx).2.1, (a10 x hx).2.2.1, fun l l0 l1 => ?_⟩
  rw [au_ne _ _ _ _ (by decide), au_ne _ _ _ _ (by decide), au_ne _ _ _ _ (by decide)]
  exact (a10 x hx).2.2.2 l l0 l1
theorem fh_105 {A Y : Nat → Int → Int} {n kk ww w : Int} (h : fh A Y n kk ww) (hw : rg w) : fh A (au Y 105 n w) n w ww := by
  obtain ⟨a1, a2, a3, a4, a5, ⟨a6, a7, a8, a9⟩, a10⟩ := h
  refine ⟨fr_au a1 (by omega), tB_au a2 hw (by decide) (by decide), (au_ne _ _ _ _ (by decide)).trans a3, (au_ne _ _ _ _ (by decide)).trans a4, fun i => ⟨(au_ne _ _ _ _ (by decide)).trans (a5 i).1, (au_ne _ _ _ _ (by decide)).trans (a5 i).2⟩, ⟨au_same _ _ _ _, (au_ne _ _ _ _ (by decide)).trans a7, (au_ne _ _ _ _ (by decide)).trans a8, fun l l0 l1 => (au_ne _ _ _ _ (by decide)).trans (a9 l l0 l1)⟩, fun x hx => ?_⟩
  rw [au_ni _ _ _ (by omega), au_ne _ _ _ _ (by decide), au_ne _ _ _ _ (by decide)]
  refine ⟨(a10 x hx).1, (a10 x hx).2.1, (a10 x hx).2.2.1, fun l l0 l1 => ?_⟩
  rw [au_ne _ _ _ _ (by decide), au_ne _ _ _ _ (by decide), au_ne _ _ _ _ (by decide)]
  exact (a10 x hx).2.2.2 l l0 l1
theorem tB_opn {Y : Nat → Int → Int} {n : Int} (h : tB Y) (hn : rg n) (ho : 0 ≤ Y 100 14 ∧ Y 100 14 < 1000) : tB (opn Y n) := by
  unfold opn
  exact tB_sc (tB_au (tB_au h hn (by decide) (by decide)) rg_0 (by decide) (by decide)) ⟨by omega, by omega⟩ (by decide) (by decide)
/-- opened -/
theorem fh_opn {A Y : Nat → Int → Int} {cx : Int → Int} {len base p k p' kk ww e : Int} {env : List Int} (hP : pS A cx len base env p k) (hk : k ≠ 30) (b0 : 0 ≤ base) (b1 : base ≤ 200) (h : fh A Y (base + k) kk ww) (h2 : Y 100 2 = p') (h3 : Y 100 3 = -1) (he : if e = 3 then kk ≠ 2 else kk = 2 ∧ ww = e) :
    pS (opn Y (base + k)) cx len base (e :: env) p' (k + 1) ∧ fr A (opn Y (base + k)) ∧ kpT A (opn Y (base + k)) (base + k) ∧ kpS A (opn Y (base + k)) env.length ∧ tTop (opn Y (base + k)) = base + k ∧ opn Y (base + k) 116 (opn Y (base + k) 100 14 - 1) = 0 ∧ (opn Y (base + k) 105 (base + k) = kk ∧ opn Y (base + k) 106 (base + k) = ww ∧ opn Y (base + k) 107 (base + k) = 0 ∧ ∀ l, 0 ≤ l → l < 6 → opn Y (base + k) 108 (6 * (base + k) + l) = 0) := by
  obtain ⟨p1, p2, p3, p4, p5, p6, p7, p8, p9⟩ := hP
  obtain ⟨a1, a2, a3, a4, a5, ⟨a6, a7, a8, a9⟩, a10⟩ := h
  have hr : rg (base + k) := ⟨by omega, by omega⟩
  have hf : fr A (opn Y (base + k)) := fr_opn a1
  have r5 : ∀ x, opn Y (base + k) 105 x = Y 105 x := fun x => opn_ne _ _ _ (by decide) (by decide) (by decide)
  have r6 : ∀ x, opn Y (base + k) 106 x = Y 106 x := fun x => opn_ne _ _ _ (by decide) (by decide) (by decide)
  have r7 : ∀ x, opn Y (base + k) 107 x = Y 107 x := fun x => opn_ne _ _ _ (by decide) (by decide) (by decide)
  have r8 : ∀ x, opn Y (base + k) 108 x = Y 108 x := fun x => opn_ne _ _ _ (by decide) (by decide) (by decide)
  have r9 : ∀ x, opn Y (base + k) 109 x = Y 109 x := fun x => opn_ne _ _ _ (by decide) (by decide) (by decide)
  have r10 : ∀ x, opn Y (base + k) 110 x = Y 110 x := fun x => opn_ne _ _ _ (by decide) (by decide) (by decide)
  have r15 : ∀ i : Int, opn Y (base + k) 115 i = if i = env.length then base + k else A 115 i := fun i => by rw [opn_115, a4, p6, (a5 i).1]
  have r16 : ∀ i : Int, opn Y (base + k) 116 i = if i = env.length then 0 else A 116 i := fun i => by rw [opn_116, a4, p6, (a5 i).2]
  have r14 : opn Y (base + k) 100 14 = env.length + 1 := by rw [opn_14, a4, p6]
  have hS : kpS A (opn Y (base + k)) env.length := fun i hi => by rw [r15, r16, if_neg (by omega), if_neg (by omega)]; exact ⟨rfl, rfl⟩
  refine ⟨⟨tB_opn a2 hr (by rw [a4, p6]; omega), p2.to hf, by rw [opn_sc _ _ (by decide), h2], by rw [opn_sc _ _ (by decide), h3], by rw [opn_sc _ _ (by decide), a3]; omega, by rw [r14]; rfl, by simp; omega, by omega, ?_⟩, hf, fun x hx => ?_, hS, ?_, ?_, by rw [r5]; exact a6, by rw [r6]; exact a7, by rw [r7]; exact a8, fun l l0 l1 => by rw [r8]; exact a9 l l0 l1⟩
  · refine ⟨by rw [r15, if_pos rfl]; omega, by rw [r16, if_pos rfl]; omega, by rw [r15, if_pos rfl, r5, r6, a6, a7]; exact he, p9.to (by omega) hS (fun x x0 x1 => by rw [r5, r6]; exact ⟨(a10 x x1).1, (a10 x x1).2.1⟩)⟩
  · rw [r5, r6, r7]
    refine ⟨(a10 x hx).1, (a10 x hx).2.1, (a10 x hx).2.2.1, fun l l0 l1 => ?_⟩
    rw [r8, r9, r10]
    exact (a10 x hx).2.2.2 l l0 l1
  · unfold tTop
    rw [r14, r15, if_pos (by omega)]
  · rw [r14, r16, if_pos (by omega)]
