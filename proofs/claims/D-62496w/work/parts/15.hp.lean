/-! THE HEAP OF THE RUN: static cells at n + 0 .. n + 61 (contents in A: ints, R: references), what is made later in g -/
def xa (n o : Nat) : Nat := n + o
def ai (k : Nat) (f : Int → Int) : List Value := av k (fun i => iv (f i))
def fX (n : Nat) (A : Nat → Int → Int) (R : Nat → Int → Value) : List Value := [.ref (xa n 1), R 0 0, iv (A 0 2), .ref (xa n 5), .ref (xa n 6), .ref (xa n 7), .ref (xa n 8), .ref (xa n 9), .ref (xa n 10), iv (A 0 9), iv (A 0 10), .ref (xa n 11), .ref (xa n 12), .ref (xa n 13), .ref (xa n 14), .ref (xa n 31), iv (A 0 16)]
def fR (n : Nat) (A : Nat → Int → Int) : List Value := [.ref (xa n 2), iv (A 1 1), iv (A 1 2), iv (A 1 3), .ref (xa n 3), .ref (xa n 4)]
def fT (n : Nat) (A : Nat → Int → Int) : List Value := [iv (A 100 0), .ref (xa n 33), iv (A 100 2), iv (A 100 3), iv (A 100 4), .ref (xa n 34), .ref (xa n 35), .ref (xa n 36), .ref (xa n 37), .ref (xa n 38), .ref (xa n 39), .ref (xa n 40), iv (A 100 12), iv (A 100 13), iv (A 100 14), .ref (xa n 41), .ref (xa n 42), .ref (xa n 43), iv (A 100 18), .ref (xa n 44), .ref (xa n 45), .ref (xa n 46), .ref (xa n 47), .ref (xa n 48), .ref (xa n 49), .ref (xa n 50), .ref (xa n 51), .ref (xa n 52), .ref (xa n 53), .ref (xa n 54), .ref (xa n 55), .ref (xa n 56), iv (A 100 32), iv (A 100 33), .ref (xa n 57), .ref (xa n 58), .ref (xa n 59), .ref (xa n 60), .ref (xa n 61)]
def stat (n : Nat) (A : Nat → Int → Int) (R : Nat → Int → Value) : List (Nat × List Value) := [(1, fX n A R), (2, fR n A), (21, ai 100 (A 2)), (20, ai 3 (A 3)), (22, ai 3 (A 4)), (23, av 4 (R 1)), (22, ai 4 (A 5)), (23, av 4 (R 2)), (22, ai 900 (A 6)), (24, av 900 (R 3)), (24, av 900 (R 4)), (24, av 4 (R 5)), (22, ai 4 (A 7)), (20, ai 4 (A 8)), (25, av 16 (fun q => .ref (xa n (15 + q.toNat)))), (20, ai 4 (fun i => A 10 (0 + i))), (20, ai 4 (fun i => A 10 (4 + i))), (20, ai 4 (fun i => A 10 (8 + i))), (20, ai 4 (fun i => A 10 (12 + i))), (20, ai 4 (fun i => A 10 (16 + i))), (20, ai 4 (fun i => A 10 (20 + i))), (20, ai 4 (fun i => A 10 (24 + i))), (20, ai 4 (fun i => A 10 (28 + i))), (20, ai 4 (fun i => A 10 (32 + i))), (20, ai 4 (fun i => A 10 (36 + i))), (20, ai 4 (fun i => A 10 (40 + i))), (20, ai 4 (fun i => A 10 (44 + i))), (20, ai 4 (fun i => A 10 (48 + i))), (20, ai 4 (fun i => A 10 (52 + i))), (20, ai 4 (fun i => A 10 (56 + i))), (20, ai 4 (fun i => A 10 (60 + i))), (20, ai 16 (A 9)), (17, fT n A), (21, ai 100 (A 101)), (20, ai 300 (A 105)), (20, ai 300 (A 106)), (20, ai 300 (A 107)), (20, ai 1800 (A 108)), (20, ai 1800 (A 109)), (20, ai 1800 (A 110)), (20, ai 300 (A 111)), (20, ai 32 (A 115)), (20, ai 32 (A 116)), (20, ai 32 (A 117)), (20, ai 1000 (A 119)), (20, ai 1000 (A 120)), (20, ai 300 (A 121)), (20, ai 9 (A 122)), (20, ai 279 (A 123)), (20, ai 279 (A 124)), (20, ai 279 (A 125)), (20, ai 1674 (A 126)), (20, ai 1674 (A 127)), (20, ai 1674 (A 128)), (20, ai 300 (A 129)), (20, ai 256 (A 130)), (22, ai 961 (A 131)), (20, ai 4 (A 134)), (22, ai 4 (A 135)), (20, ai 4 (A 136)), (20, ai 16 (A 137)), (20, ai 64 (A 138))]
def hp (n : Nat) (A : Nat → Int → Int) (R : Nat → Int → Value) (g : Nat → Nat × List Value) (t u : Nat) : xh := (fun a => if a < n then (0, []) else match (stat n A R)[a - n]? with
  | some c => c
  | none => g a, t, u)
def au (A : Nat → Int → Int) (j : Nat) (i x : Int) : Nat → Int → Int := fun j' => if j' = j then fu (A j) i x else A j'
def ru (R : Nat → Int → Value) (j : Nat) (i : Int) (x : Value) : Nat → Int → Value := fun j' => if j' = j then fu (R j) i x else R j'
def gu (g : Nat → Nat × List Value) (a : Nat) (c : Nat × List Value) : Nat → Nat × List Value := fun q => if q = a then c else g q
def rga (A : Nat → Int → Int) : Prop := ∀ j i, rg (A j i)
theorem rga_au {A : Nat → Int → Int} (h : rga A) {j : Nat} {i x : Int} (hx : rg x) : rga (au A j i x) := fun j' i' => by
  unfold au fu
  split
  · dsimp only
    split
    · exact hx
    · exact h j i'
  · exact h j' i'
theorem au_same (A : Nat → Int → Int) (j : Nat) (i x : Int) : au A j i x j i = x := by simp [au, fu]
theorem au_ne (A : Nat → Int → Int) {j j' : Nat} (i x i' : Int) (h : j' ≠ j) : au A j i x j' i' = A j' i' := by simp [au, h]
theorem au_ni (A : Nat → Int → Int) (j : Nat) {i i' : Int} (x : Int) (h : i' ≠ i) : au A j i x j i' = A j i' := by simp [au, fu, h]
theorem fu_iv (f : Int → Int) (i x : Int) : fu (fun q => iv (f q)) i (iv x) = fun q => iv (fu f i x q) := by
  funext q
  unfold fu
  split <;> rfl
theorem stat_len (n : Nat) (A : Nat → Int → Int) (R : Nat → Int → Value) : (stat n A R).length = 62 := rfl
section HP
variable {n : Nat} {A A' : Nat → Int → Int} {R R' : Nat → Int → Value} {g : Nat → Nat × List Value} {t u : Nat}
theorem hp_at {o : Nat} {c : Nat × List Value} (h : (stat n A R)[o]? = some c) : (hp n A R g t u).1 (xa n o) = c := by
  unfold hp xa
  have h1 : ¬ n + o < n := by omega
  have h2 : n + o - n = o := by omega
  simp only [if_neg h1, h2, h]
theorem hp_g {a : Nat} (ha : n + 62 ≤ a) : (hp n A R g t u).1 a = g a := by
  unfold hp
  have h1 : ¬ a < n := by omega
  have h2 : (stat n A R)[a - n]? = none := List.getElem?_eq_none (by rw [stat_len]; omega)
  simp only [if_neg h1, h2]
theorem hp_set {o : Nat} {c : Nat × List Value} (ho : o < 62) (h : (stat n A R).set o c = stat n A' R') : (hp n A R g t u).set (xa n o) c = hp n A' R' g t u := by
  unfold hp xh.set xa
  refine Prod.ext ?_ rfl
  funext q
  show (if q = n + o then c else _) = _
  by_cases hq : q = n + o
  · have h1 : ¬ q < n := by omega
    rw [if_pos hq]
    have h2 : q - n = o := by omega
    simp only [if_neg h1, h2, ← h]
    rw [List.getElem?_set_self (by rw [stat_len]; exact ho)]
  · rw [if_neg hq]
    by_cases h1 : q < n
    · simp only [if_pos h1]
    · simp only [if_neg h1, ← h]
      rw [List.getElem?_set_ne (by omega)]
theorem hp_gset {a : Nat} {c : Nat × List Value} (ha : n + 62 ≤ a) : (hp n A R g t u).set a c = hp n A R (gu g a c) t u := by
  unfold hp xh.set gu
  refine Prod.ext ?_ rfl
  funext q
  show (if q = a then c else _) = _
  by_cases hq : q = a
  · subst hq
    have h1 : ¬ q < n := by omega
    have h2 : (stat n A R)[q - n]? = none := List.getElem?_eq_none (by rw [stat_len]; omega)
    simp only [if_neg h1, h2, if_true]
  · rw [if_neg hq]
    simp only [if_neg hq]
theorem hp_new {c : Nat × List Value} {k : Nat} (ht : n + 62 ≤ t) : (hp n A R g t u).new c k = hp n A R (gu g t c) (t + 1) (u + k) := by
  have := hp_gset (n := n) (A := A) (R := R) (g := g) (t := t) (u := u) (c := c) ht
  unfold xh.set at this
  unfold xh.new
  have h1 := congrArg Prod.fst this
  refine Prod.ext ?_ rfl
  exact h1
theorem ws_2 {i x : Int} : (hp n A R g t u).set (xa n 2) (21, av 100 (fu (fun q => iv (A 2 q)) i (iv x))) = hp n (au A 2 i x) R g t u := hp_set (by decide) (by rw [fu_iv]; rfl)
theorem ws_3 {i x : Int} : (hp n A R g t u).set (xa n 3) (20, av 3 (fu (fun q => iv (A 3 q)) i (iv x))) = hp n (au A 3 i x) R g t u := hp_set (by decide) (by rw [fu_iv]; rfl)
theorem ws_4 {i x : Int} : (hp n A R g t u).set (xa n 4) (22, av 3 (fu (fun q => iv (A 4 q)) i (iv x))) = hp n (au A 4 i x) R g t u := hp_set (by decide) (by rw [fu_iv]; rfl)
theorem ws_5 {i x : Int} : (hp n A R g t u).set (xa n 6) (22, av 4 (fu (fun q => iv (A 5 q)) i (iv x))) = hp n (au A 5 i x) R g t u := hp_set (by decide) (by rw [fu_iv]; rfl)
theorem ws_6 {i x : Int} : (hp n A R g t u).set (xa n 8) (22, av 900 (fu (fun q => iv (A 6 q)) i (iv x))) = hp n (au A 6 i x) R g t u := hp_set (by decide) (by rw [fu_iv]; rfl)
theorem ws_7 {i x : Int} : (hp n A R g t u).set (xa n 12) (22, av 4 (fu (fun q => iv (A 7 q)) i (iv x))) = hp n (au A 7 i x) R g t u := hp_set (by decide) (by rw [fu_iv]; rfl)
theorem ws_8 {i x : Int} : (hp n A R g t u).set (xa n 13) (20, av 4 (fu (fun q => iv (A 8 q)) i (iv x))) = hp n (au A 8 i x) R g t u := hp_set (by decide) (by rw [fu_iv]; rfl)
theorem ws_9 {i x : Int} : (hp n A R g t u).set (xa n 31) (20, av 16 (fu (fun q => iv (A 9 q)) i (iv x))) = hp n (au A 9 i x) R g t u := hp_set (by decide) (by rw [fu_iv]; rfl)
theorem ws_101 {i x : Int} : (hp n A R g t u).set (xa n 33) (21, av 100 (fu (fun q => iv (A 101 q)) i (iv x))) = hp n (au A 101 i x) R g t u := hp_set (by decide) (by rw [fu_iv]; rfl)
theorem ws_105 {i x : Int} : (hp n A R g t u).set (xa n 34) (20, av 300 (fu (fun q => iv (A 105 q)) i (iv x))) = hp n (au A 105 i x) R g t u := hp_set (by decide) (by rw [fu_iv]; rfl)
theorem ws_106 {i x : Int} : (hp n A R g t u).set (xa n 35) (20, av 300 (fu (fun q => iv (A 106 q)) i (iv x))) = hp n (au A 106 i x) R g t u := hp_set (by decide) (by rw [fu_iv]; rfl)
theorem ws_107 {i x : Int} : (hp n A R g t u).set (xa n 36) (20, av 300 (fu (fun q => iv (A 107 q)) i (iv x))) = hp n (au A 107 i x) R g t u := hp_set (by decide) (by rw [fu_iv]; rfl)
theorem ws_108 {i x : Int} : (hp n A R g t u).set (xa n 37) (20, av 1800 (fu (fun q => iv (A 108 q)) i (iv x))) = hp n (au A 108 i x) R g t u := hp_set (by decide) (by rw [fu_iv]; rfl)
theorem ws_109 {i x : Int} : (hp n A R g t u).set (xa n 38) (20, av 1800 (fu (fun q => iv (A 109 q)) i (iv x))) = hp n (au A 109 i x) R g t u := hp_set (by decide) (by rw [fu_iv]; rfl)
theorem ws_110 {i x : Int} : (hp n A R g t u).set (xa n 39) (20, av 1800 (fu (fun q => iv (A 110 q)) i (iv x))) = hp n (au A 110 i x) R g t u := hp_set (by decide) (by rw [fu_iv]; rfl)
theorem ws_111 {i x : Int} : (hp n A R g t u).set (xa n 40) (20, av 300 (fu (fun q => iv (A 111 q)) i (iv x))) = hp n (au A 111 i x) R g t u := hp_set (by decide) (by rw [fu_iv]; rfl)
theorem ws_115 {i x : Int} : (hp n A R g t u).set (xa n 41) (20, av 32 (fu (fun q => iv (A 115 q)) i (iv x))) = hp n (au A 115 i x) R g t u := hp_set (by decide) (by rw [fu_iv]; rfl)
theorem ws_116 {i x : Int} : (hp n A R g t u).set (xa n 42) (20, av 32 (fu (fun q => iv (A 116 q)) i (iv x))) = hp n (au A 116 i x) R g t u := hp_set (by decide) (by rw [fu_iv]; rfl)
theorem ws_117 {i x : Int} : (hp n A R g t u).set (xa n 43) (20, av 32 (fu (fun q => iv (A 117 q)) i (iv x))) = hp n (au A 117 i x) R g t u := hp_set (by decide) (by rw [fu_iv]; rfl)
theorem ws_119 {i x : Int} : (hp n A R g t u).set (xa n 44) (20, av 1000 (fu (fun q => iv (A 119 q)) i (iv x))) = hp n (au A 119 i x) R g t u := hp_set (by decide) (by rw [fu_iv]; rfl)
theorem ws_120 {i x : Int} : (hp n A R g t u).set (xa n 45) (20, av 1000 (fu (fun q => iv (A 120 q)) i (iv x))) = hp n (au A 120 i x) R g t u := hp_set (by decide) (by rw [fu_iv]; rfl)
theorem ws_121 {i x : Int} : (hp n A R g t u).set (xa n 46) (20, av 300 (fu (fun q => iv (A 121 q)) i (iv x))) = hp n (au A 121 i x) R g t u := hp_set (by decide) (by rw [fu_iv]; rfl)
theorem ws_122 {i x : Int} : (hp n A R g t u).set (xa n 47) (20, av 9 (fu (fun q => iv (A 122 q)) i (iv x))) = hp n (au A 122 i x) R g t u := hp_set (by decide) (by rw [fu_iv]; rfl)
theorem ws_123 {i x : Int} : (hp n A R g t u).set (xa n 48) (20, av 279 (fu (fun q => iv (A 123 q)) i (iv x))) = hp n (au A 123 i x) R g t u := hp_set (by decide) (by rw [fu_iv]; rfl)
theorem ws_124 {i x : Int} : (hp n A R g t u).set (xa n 49) (20, av 279 (fu (fun q => iv (A 124 q)) i (iv x))) = hp n (au A 124 i x) R g t u := hp_set (by decide) (by rw [fu_iv]; rfl)
theorem ws_125 {i x : Int} : (hp n A R g t u).set (xa n 50) (20, av 279 (fu (fun q => iv (A 125 q)) i (iv x))) = hp n (au A 125 i x) R g t u := hp_set (by decide) (by rw [fu_iv]; rfl)
theorem ws_126 {i x : Int} : (hp n A R g t u).set (xa n 51) (20, av 1674 (fu (fun q => iv (A 126 q)) i (iv x))) = hp n (au A 126 i x) R g t u := hp_set (by decide) (by rw [fu_iv]; rfl)
theorem ws_127 {i x : Int} : (hp n A R g t u).set (xa n 52) (20, av 1674 (fu (fun q => iv (A 127 q)) i (iv x))) = hp n (au A 127 i x) R g t u := hp_set (by decide) (by rw [fu_iv]; rfl)
theorem ws_128 {i x : Int} : (hp n A R g t u).set (xa n 53) (20, av 1674 (fu (fun q => iv (A 128 q)) i (iv x))) = hp n (au A 128 i x) R g t u := hp_set (by decide) (by rw [fu_iv]; rfl)
theorem ws_129 {i x : Int} : (hp n A R g t u).set (xa n 54) (20, av 300 (fu (fun q => iv (A 129 q)) i (iv x))) = hp n (au A 129 i x) R g t u := hp_set (by decide) (by rw [fu_iv]; rfl)
theorem ws_130 {i x : Int} : (hp n A R g t u).set (xa n 55) (20, av 256 (fu (fun q => iv (A 130 q)) i (iv x))) = hp n (au A 130 i x) R g t u := hp_set (by decide) (by rw [fu_iv]; rfl)
theorem ws_131 {i x : Int} : (hp n A R g t u).set (xa n 56) (22, av 961 (fu (fun q => iv (A 131 q)) i (iv x))) = hp n (au A 131 i x) R g t u := hp_set (by decide) (by rw [fu_iv]; rfl)
theorem ws_134 {i x : Int} : (hp n A R g t u).set (xa n 57) (20, av 4 (fu (fun q => iv (A 134 q)) i (iv x))) = hp n (au A 134 i x) R g t u := hp_set (by decide) (by rw [fu_iv]; rfl)
theorem ws_135 {i x : Int} : (hp n A R g t u).set (xa n 58) (22, av 4 (fu (fun q => iv (A 135 q)) i (iv x))) = hp n (au A 135 i x) R g t u := hp_set (by decide) (by rw [fu_iv]; rfl)
theorem ws_136 {i x : Int} : (hp n A R g t u).set (xa n 59) (20, av 4 (fu (fun q => iv (A 136 q)) i (iv x))) = hp n (au A 136 i x) R g t u := hp_set (by decide) (by rw [fu_iv]; rfl)
theorem ws_137 {i x : Int} : (hp n A R g t u).set (xa n 60) (20, av 16 (fu (fun q => iv (A 137 q)) i (iv x))) = hp n (au A 137 i x) R g t u := hp_set (by decide) (by rw [fu_iv]; rfl)
theorem ws_138 {i x : Int} : (hp n A R g t u).set (xa n 61) (20, av 64 (fu (fun q => iv (A 138 q)) i (iv x))) = hp n (au A 138 i x) R g t u := hp_set (by decide) (by rw [fu_iv]; rfl)
theorem wr_1 {i : Int} {x : Value} : (hp n A R g t u).set (xa n 5) (23, av 4 (fu (R 1) i x)) = hp n A (ru R 1 i x) g t u := hp_set (by decide) rfl
theorem wr_2 {i : Int} {x : Value} : (hp n A R g t u).set (xa n 7) (23, av 4 (fu (R 2) i x)) = hp n A (ru R 2 i x) g t u := hp_set (by decide) rfl
theorem wr_3 {i : Int} {x : Value} : (hp n A R g t u).set (xa n 9) (24, av 900 (fu (R 3) i x)) = hp n A (ru R 3 i x) g t u := hp_set (by decide) rfl
theorem wr_4 {i : Int} {x : Value} : (hp n A R g t u).set (xa n 10) (24, av 900 (fu (R 4) i x)) = hp n A (ru R 4 i x) g t u := hp_set (by decide) rfl
theorem wr_5 {i : Int} {x : Value} : (hp n A R g t u).set (xa n 11) (24, av 4 (fu (R 5) i x)) = hp n A (ru R 5 i x) g t u := hp_set (by decide) rfl
theorem wX_2 {x : Int} : (hp n A R g t u).set (xa n 0) (1, (fX n A R).set 2 (iv x)) = hp n (au A 0 2 x) R g t u := hp_set (by decide) rfl
theorem wX_9 {x : Int} : (hp n A R g t u).set (xa n 0) (1, (fX n A R).set 9 (iv x)) = hp n (au A 0 9 x) R g t u := hp_set (by decide) rfl
theorem wX_10 {x : Int} : (hp n A R g t u).set (xa n 0) (1, (fX n A R).set 10 (iv x)) = hp n (au A 0 10 x) R g t u := hp_set (by decide) rfl
theorem wX_16 {x : Int} : (hp n A R g t u).set (xa n 0) (1, (fX n A R).set 16 (iv x)) = hp n (au A 0 16 x) R g t u := hp_set (by decide) rfl
theorem wX_1 {x : Value} : (hp n A R g t u).set (xa n 0) (1, (fX n A R).set 1 x) = hp n A (ru R 0 0 x) g t u := hp_set (by decide) rfl
theorem wR_1 {x : Int} : (hp n A R g t u).set (xa n 1) (2, (fR n A).set 1 (iv x)) = hp n (au A 1 1 x) R g t u := hp_set (by decide) rfl
theorem wR_2 {x : Int} : (hp n A R g t u).set (xa n 1) (2, (fR n A).set 2 (iv x)) = hp n (au A 1 2 x) R g t u := hp_set (by decide) rfl
theorem wR_3 {x : Int} : (hp n A R g t u).set (xa n 1) (2, (fR n A).set 3 (iv x)) = hp n (au A 1 3 x) R g t u := hp_set (by decide) rfl
theorem wT_0 {x : Int} : (hp n A R g t u).set (xa n 32) (17, (fT n A).set 0 (iv x)) = hp n (au A 100 0 x) R g t u := hp_set (by decide) rfl
theorem wT_2 {x : Int} : (hp n A R g t u).set (xa n 32) (17, (fT n A).set 2 (iv x)) = hp n (au A 100 2 x) R g t u := hp_set (by decide) rfl
theorem wT_3 {x : Int} : (hp n A R g t u).set (xa n 32) (17, (fT n A).set 3 (iv x)) = hp n (au A 100 3 x) R g t u := hp_set (by decide) rfl
theorem wT_4 {x : Int} : (hp n A R g t u).set (xa n 32) (17, (fT n A).set 4 (iv x)) = hp n (au A 100 4 x) R g t u := hp_set (by decide) rfl
theorem wT_12 {x : Int} : (hp n A R g t u).set (xa n 32) (17, (fT n A).set 12 (iv x)) = hp n (au A 100 12 x) R g t u := hp_set (by decide) rfl
theorem wT_13 {x : Int} : (hp n A R g t u).set (xa n 32) (17, (fT n A).set 13 (iv x)) = hp n (au A 100 13 x) R g t u := hp_set (by decide) rfl
theorem wT_14 {x : Int} : (hp n A R g t u).set (xa n 32) (17, (fT n A).set 14 (iv x)) = hp n (au A 100 14 x) R g t u := hp_set (by decide) rfl
theorem wT_18 {x : Int} : (hp n A R g t u).set (xa n 32) (17, (fT n A).set 18 (iv x)) = hp n (au A 100 18 x) R g t u := hp_set (by decide) rfl
theorem wT_32 {x : Int} : (hp n A R g t u).set (xa n 32) (17, (fT n A).set 32 (iv x)) = hp n (au A 100 32 x) R g t u := hp_set (by decide) rfl
theorem wT_33 {x : Int} : (hp n A R g t u).set (xa n 32) (17, (fT n A).set 33 (iv x)) = hp n (au A 100 33 x) R g t u := hp_set (by decide) rfl
end HP
def c1l : List Value → Bool
  | [] => true
  | v :: r => (v.category == 1) && c1l r
theorem c1l_of : ∀ {l : List Value}, c1l l = true → ∀ v ∈ l, v.category = 1
  | [], _, v, hv => by cases hv
  | w :: r, h, v, hv => by
    unfold c1l at h
    rw [Bool.and_eq_true, beq_iff_eq] at h
    rcases List.mem_cons.mp hv with rfl | hv
    · exact h.1
    · exact c1l_of h.2 v hv
theorem mx_in {K : xk} {M : xm} {d : Nat} {args : List Value} {h : xh} {Q : Outcome → xh → Prop} (hM : okm M) (hc : c1l args = true) (hn : args.length ≤ M.n) (k : wx K M d Q 0 (ent args M.n) [] h) : mx K M d args h Q := mx_of hM (c1l_of hc) hn k
theorem wx_wf {K : xk} {M : xm} {d : Nat} {Q : Outcome → xh → Prop} {pc : Nat} {L : List (Option Value)} {st : List Value} {h : xh} (k : K.n ≤ h.2.1 → (∀ a, (h.1 a).1 ≠ 0 → K.n ≤ a ∧ a < h.2.1) → h.2.1 ≤ K.n + 600128 → wx K M d Q pc L st h) : wx K M d Q pc L st h := by
  intro s m args below meth c H locs h0 ls A hH h1 h2 hl hL
  exact k hH.2.1 (fun a ha => ⟨(hH.2.2.2.1 a ha).1, by have := (hH.2.2.2.1 a ha).2.lt; rw [hH.1] at this; exact this⟩) hH.2.2.2.2.1 s m args below meth c H locs h0 ls A hH h1 h2 hl hL
theorem wx_L {K : xk} {M : xm} {d : Nat} {Q : Outcome → xh → Prop} {pc : Nat} {L L' : List (Option Value)} {st : List Value} {h : xh} (hn : L'.length = L.length) (hL : ∀ (i : Nat) (v : Value), L'[i]? = some (some v) → L[i]? = some (some v)) (k : wx K M d Q pc L' st h) : wx K M d Q pc L st h := by
  intro s m args below meth c H locs h0 ls A hH h1 h2 hl hl2
  exact k s m args below meth c H locs h0 ls A hH h1 h2 hl ⟨hl2.1, hl2.2.1, by rw [hn]; exact hl2.2.2.1, fun i v h => hl2.2.2.2.1 i v (hL i v h), fun i v h => hl2.2.2.2.2 i v (hL i v h)⟩
theorem mx_mono {K : xk} {M : xm} {d : Nat} {args : List Value} {h : xh} {Q Q' : Outcome → xh → Prop} (hm : mx K M d args h Q) (hq : ∀ o h', Q o h' → Q' o h') : mx K M d args h Q' := by
  intro p e a1 a2 a3 s m as below b1 b2 b3 b4
  obtain ⟨n, o, c1, c2, c3, h', c4, c5⟩ := hm p e a1 a2 a3 s m as below b1 b2 b3 b4
  exact ⟨n, o, c1, c2, c3, h', hq o h' c4, c5⟩
