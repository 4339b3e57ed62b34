/-! every row of a method is found at its place -/
def srt : List (Nat × pvI) → Bool
  | [] => true
  | a :: r => (match r with | [] => true | b :: _ => Nat.blt a.1 b.1) && srt r
theorem srt_lt : ∀ (r : List (Nat × pvI)) (a : Nat × pvI), srt (a :: r) = true → ∀ q ∈ r, a.1 < q.1 := by
  intro r
  induction r with
  | nil => intro a _ q hq; cases hq
  | cons b t ih =>
    intro a h q hq
    have h : (Nat.blt a.1 b.1 && srt (b :: t)) = true := h
    rw [Bool.and_eq_true] at h
    have h1 : a.1 < b.1 := Nat.blt_eq.mp h.1
    cases hq with
    | head => exact h1
    | tail _ hq => exact Nat.lt_trans h1 (ih b h.2 q hq)
theorem srt_find : ∀ (l : List (Nat × pvI)), srt l = true → ∀ q ∈ l, (l.find? (fun p => p.1 == q.1)) = some q := by
  intro l
  induction l with
  | nil => intro _ q hq; cases hq
  | cons a r ih =>
    intro h q hq
    have h' : srt r = true := by
      unfold srt at h
      rw [Bool.and_eq_true] at h
      exact h.2
    cases hq with
    | head => simp
    | tail _ hq =>
      have := srt_lt r a h q hq
      rw [List.find?_cons_of_neg (by simp; omega)]
      exact ih h' q hq
theorem ins_of {M : Nat} {I : List (Nat × pvI)} (h : insOf M = I) (hs : srt I = true) : ∀ q ∈ I, insP M q.1 = some q.2 := by
  intro q hq
  unfold insP
  rw [h, srt_find I hs q hq]
  rfl
set_option maxRecDepth 1000000 in
theorem ins0 : ∀ q ∈ I0, insP 0 q.1 = some q.2 := ins_of rfl (by decide +kernel)
set_option maxRecDepth 1000000 in
theorem ins1 : ∀ q ∈ I1, insP 1 q.1 = some q.2 := ins_of rfl (by decide +kernel)
set_option maxRecDepth 1000000 in
theorem ins2 : ∀ q ∈ I2, insP 2 q.1 = some q.2 := ins_of rfl (by decide +kernel)
set_option maxRecDepth 1000000 in
theorem ins3 : ∀ q ∈ I3, insP 3 q.1 = some q.2 := ins_of rfl (by decide +kernel)
set_option maxRecDepth 1000000 in
theorem ins4 : ∀ q ∈ I4, insP 4 q.1 = some q.2 := ins_of rfl (by decide +kernel)
set_option maxRecDepth 1000000 in
theorem ins5 : ∀ q ∈ I5, insP 5 q.1 = some q.2 := ins_of rfl (by decide +kernel)
set_option maxRecDepth 1000000 in
theorem ins6 : ∀ q ∈ I6, insP 6 q.1 = some q.2 := ins_of rfl (by decide +kernel)
set_option maxRecDepth 1000000 in
theorem ins7 : ∀ q ∈ I7, insP 7 q.1 = some q.2 := ins_of rfl (by decide +kernel)
set_option maxRecDepth 1000000 in
theorem ins9 : ∀ q ∈ I9, insP 9 q.1 = some q.2 := ins_of rfl (by decide +kernel)
set_option maxRecDepth 1000000 in
theorem ins10 : ∀ q ∈ I10, insP 10 q.1 = some q.2 := ins_of rfl (by decide +kernel)
set_option maxRecDepth 1000000 in
theorem ins11 : ∀ q ∈ I11, insP 11 q.1 = some q.2 := ins_of rfl (by decide +kernel)
set_option maxRecDepth 1000000 in
theorem ins12 : ∀ q ∈ I12, insP 12 q.1 = some q.2 := ins_of rfl (by decide +kernel)
set_option maxRecDepth 1000000 in
theorem ins13 : ∀ q ∈ I13, insP 13 q.1 = some q.2 := ins_of rfl (by decide +kernel)
set_option maxRecDepth 1000000 in
theorem ins14 : ∀ q ∈ I14, insP 14 q.1 = some q.2 := ins_of rfl (by decide +kernel)
set_option maxRecDepth 1000000 in
theorem ins15 : ∀ q ∈ I15, insP 15 q.1 = some q.2 := ins_of rfl (by decide +kernel)
set_option maxRecDepth 1000000 in
theorem ins16 : ∀ q ∈ I16, insP 16 q.1 = some q.2 := ins_of rfl (by decide +kernel)
set_option maxRecDepth 1000000 in
theorem ins17 : ∀ q ∈ I17, insP 17 q.1 = some q.2 := ins_of rfl (by decide +kernel)
set_option maxRecDepth 1000000 in
theorem ins18 : ∀ q ∈ I18, insP 18 q.1 = some q.2 := ins_of rfl (by decide +kernel)
set_option maxRecDepth 1000000 in
theorem ins19 : ∀ q ∈ I19, insP 19 q.1 = some q.2 := ins_of rfl (by decide +kernel)
set_option maxRecDepth 1000000 in
theorem ins20 : ∀ q ∈ I20, insP 20 q.1 = some q.2 := ins_of rfl (by decide +kernel)
set_option maxRecDepth 1000000 in
theorem ins21 : ∀ q ∈ I21, insP 21 q.1 = some q.2 := ins_of rfl (by decide +kernel)
set_option maxRecDepth 1000000 in
theorem ins22 : ∀ q ∈ I22, insP 22 q.1 = some q.2 := ins_of rfl (by decide +kernel)
set_option maxRecDepth 1000000 in
theorem ins23 : ∀ q ∈ I23, insP 23 q.1 = some q.2 := ins_of rfl (by decide +kernel)
set_option maxRecDepth 1000000 in
theorem ins24 : ∀ q ∈ I24, insP 24 q.1 = some q.2 := ins_of rfl (by decide +kernel)
set_option maxRecDepth 1000000 in
theorem ins25 : ∀ q ∈ I25, insP 25 q.1 = some q.2 := ins_of rfl (by decide +kernel)
set_option maxRecDepth 1000000 in
theorem ins26 : ∀ q ∈ I26, insP 26 q.1 = some q.2 := ins_of rfl (by decide +kernel)
set_option maxRecDepth 1000000 in
theorem ins27 : ∀ q ∈ I27, insP 27 q.1 = some q.2 := ins_of rfl (by decide +kernel)
set_option maxRecDepth 1000000 in
theorem ins28 : ∀ q ∈ I28, insP 28 q.1 = some q.2 := ins_of rfl (by decide +kernel)
set_option maxRecDepth 1000000 in
theorem ins29 : ∀ q ∈ I29, insP 29 q.1 = some q.2 := ins_of rfl (by decide +kernel)
set_option maxRecDepth 1000000 in
theorem ins30 : ∀ q ∈ I30, insP 30 q.1 = some q.2 := ins_of rfl (by decide +kernel)
set_option maxRecDepth 1000000 in
theorem ins31 : ∀ q ∈ I31, insP 31 q.1 = some q.2 := ins_of rfl (by decide +kernel)
set_option maxRecDepth 1000000 in
theorem ins32 : ∀ q ∈ I32, insP 32 q.1 = some q.2 := ins_of rfl (by decide +kernel)
set_option maxRecDepth 1000000 in
theorem ins34 : ∀ q ∈ I34, insP 34 q.1 = some q.2 := ins_of rfl (by decide +kernel)
set_option maxRecDepth 1000000 in
theorem ins35 : ∀ q ∈ I35, insP 35 q.1 = some q.2 := ins_of rfl (by decide +kernel)
set_option maxRecDepth 1000000 in
theorem ins36 : ∀ q ∈ I36, insP 36 q.1 = some q.2 := ins_of rfl (by decide +kernel)
set_option maxRecDepth 1000000 in
theorem ins37 : ∀ q ∈ I37, insP 37 q.1 = some q.2 := ins_of rfl (by decide +kernel)
set_option maxRecDepth 1000000 in
theorem ins38 : ∀ q ∈ I38, insP 38 q.1 = some q.2 := ins_of rfl (by decide +kernel)
set_option maxRecDepth 1000000 in
theorem ins39 : ∀ q ∈ I39, insP 39 q.1 = some q.2 := ins_of rfl (by decide +kernel)
set_option maxRecDepth 1000000 in
theorem ins40 : ∀ q ∈ I40, insP 40 q.1 = some q.2 := ins_of rfl (by decide +kernel)
set_option maxRecDepth 1000000 in
theorem ins42 : ∀ q ∈ I42, insP 42 q.1 = some q.2 := ins_of rfl (by decide +kernel)
set_option maxRecDepth 1000000 in
theorem ins43 : ∀ q ∈ I43, insP 43 q.1 = some q.2 := ins_of rfl (by decide +kernel)
set_option maxRecDepth 1000000 in
theorem ins44 : ∀ q ∈ I44, insP 44 q.1 = some q.2 := ins_of rfl (by decide +kernel)
set_option maxRecDepth 1000000 in
theorem ins45 : ∀ q ∈ I45, insP 45 q.1 = some q.2 := ins_of rfl (by decide +kernel)
set_option maxRecDepth 1000000 in
theorem ins47 : ∀ q ∈ I47, insP 47 q.1 = some q.2 := ins_of rfl (by decide +kernel)
set_option maxRecDepth 1000000 in
theorem ins48 : ∀ q ∈ I48, insP 48 q.1 = some q.2 := ins_of rfl (by decide +kernel)
set_option maxRecDepth 1000000 in
theorem ins49 : ∀ q ∈ I49, insP 49 q.1 = some q.2 := ins_of rfl (by decide +kernel)
set_option maxRecDepth 1000000 in
theorem ins50 : ∀ q ∈ I50, insP 50 q.1 = some q.2 := ins_of rfl (by decide +kernel)
set_option maxRecDepth 1000000 in
theorem ins51 : ∀ q ∈ I51, insP 51 q.1 = some q.2 := ins_of rfl (by decide +kernel)
set_option maxRecDepth 1000000 in
theorem ins52 : ∀ q ∈ I52, insP 52 q.1 = some q.2 := ins_of rfl (by decide +kernel)
set_option maxRecDepth 1000000 in
theorem ins53 : ∀ q ∈ I53, insP 53 q.1 = some q.2 := ins_of rfl (by decide +kernel)
set_option maxRecDepth 1000000 in
theorem ins54 : ∀ q ∈ I54, insP 54 q.1 = some q.2 := ins_of rfl (by decide +kernel)
set_option maxRecDepth 1000000 in
theorem ins55 : ∀ q ∈ I55, insP 55 q.1 = some q.2 := ins_of rfl (by decide +kernel)
set_option maxRecDepth 1000000 in
theorem ins56 : ∀ q ∈ I56, insP 56 q.1 = some q.2 := ins_of rfl (by decide +kernel)
set_option maxRecDepth 1000000 in
theorem ins57 : ∀ q ∈ I57, insP 57 q.1 = some q.2 := ins_of rfl (by decide +kernel)
set_option maxRecDepth 1000000 in
theorem ins58 : ∀ q ∈ I58, insP 58 q.1 = some q.2 := ins_of rfl (by decide +kernel)
set_option maxRecDepth 1000000 in
theorem ins59 : ∀ q ∈ I59, insP 59 q.1 = some q.2 := ins_of rfl (by decide +kernel)
set_option maxRecDepth 1000000 in
theorem ins60 : ∀ q ∈ I60, insP 60 q.1 = some q.2 := ins_of rfl (by decide +kernel)
set_option maxRecDepth 1000000 in
theorem ins61 : ∀ q ∈ I61, insP 61 q.1 = some q.2 := ins_of rfl (by decide +kernel)
set_option maxRecDepth 1000000 in
theorem ins62 : ∀ q ∈ I62, insP 62 q.1 = some q.2 := ins_of rfl (by decide +kernel)
set_option maxRecDepth 1000000 in
theorem ins63 : ∀ q ∈ I63, insP 63 q.1 = some q.2 := ins_of rfl (by decide +kernel)
set_option maxRecDepth 1000000 in
theorem ins65 : ∀ q ∈ I65, insP 65 q.1 = some q.2 := ins_of rfl (by decide +kernel)
set_option maxRecDepth 1000000 in
theorem ins66 : ∀ q ∈ I66, insP 66 q.1 = some q.2 := ins_of rfl (by decide +kernel)
set_option maxRecDepth 1000000 in
theorem ins67 : ∀ q ∈ I67, insP 67 q.1 = some q.2 := ins_of rfl (by decide +kernel)
set_option maxRecDepth 1000000 in
theorem ins68 : ∀ q ∈ I68, insP 68 q.1 = some q.2 := ins_of rfl (by decide +kernel)
set_option maxRecDepth 1000000 in
theorem ins69 : ∀ q ∈ I69, insP 69 q.1 = some q.2 := ins_of rfl (by decide +kernel)
set_option maxRecDepth 1000000 in
theorem ins70 : ∀ q ∈ I70, insP 70 q.1 = some q.2 := ins_of rfl (by decide +kernel)
set_option maxRecDepth 1000000 in
theorem ins71 : ∀ q ∈ I71, insP 71 q.1 = some q.2 := ins_of rfl (by decide +kernel)
set_option maxRecDepth 1000000 in
theorem ins72 : ∀ q ∈ I72, insP 72 q.1 = some q.2 := ins_of rfl (by decide +kernel)
set_option maxRecDepth 1000000 in
theorem ins73 : ∀ q ∈ I73, insP 73 q.1 = some q.2 := ins_of rfl (by decide +kernel)
set_option maxRecDepth 1000000 in
theorem ins74 : ∀ q ∈ I74, insP 74 q.1 = some q.2 := ins_of rfl (by decide +kernel)
set_option maxRecDepth 1000000 in
theorem ins75 : ∀ q ∈ I75, insP 75 q.1 = some q.2 := ins_of rfl (by decide +kernel)
set_option maxRecDepth 1000000 in
theorem ins76 : ∀ q ∈ I76, insP 76 q.1 = some q.2 := ins_of rfl (by decide +kernel)
set_option maxRecDepth 1000000 in
theorem ins78 : ∀ q ∈ I78, insP 78 q.1 = some q.2 := ins_of rfl (by decide +kernel)
set_option maxRecDepth 1000000 in
theorem ins79 : ∀ q ∈ I79, insP 79 q.1 = some q.2 := ins_of rfl (by decide +kernel)
set_option maxRecDepth 1000000 in
theorem ins80 : ∀ q ∈ I80, insP 80 q.1 = some q.2 := ins_of rfl (by decide +kernel)
set_option maxRecDepth 1000000 in
theorem ins81 : ∀ q ∈ I81, insP 81 q.1 = some q.2 := ins_of rfl (by decide +kernel)
set_option maxRecDepth 1000000 in
theorem ins82 : ∀ q ∈ I82, insP 82 q.1 = some q.2 := ins_of rfl (by decide +kernel)
set_option maxRecDepth 1000000 in
theorem ins83 : ∀ q ∈ I83, insP 83 q.1 = some q.2 := ins_of rfl (by decide +kernel)
set_option maxRecDepth 1000000 in
theorem ins84 : ∀ q ∈ I84, insP 84 q.1 = some q.2 := ins_of rfl (by decide +kernel)
set_option maxRecDepth 1000000 in
theorem ins85 : ∀ q ∈ I85, insP 85 q.1 = some q.2 := ins_of rfl (by decide +kernel)
set_option maxRecDepth 1000000 in
theorem ins86 : ∀ q ∈ I86, insP 86 q.1 = some q.2 := ins_of rfl (by decide +kernel)
set_option maxRecDepth 1000000 in
theorem ins87 : ∀ q ∈ I87, insP 87 q.1 = some q.2 := ins_of rfl (by decide +kernel)
set_option maxRecDepth 1000000 in
theorem ins88 : ∀ q ∈ I88, insP 88 q.1 = some q.2 := ins_of rfl (by decide +kernel)
set_option maxRecDepth 1000000 in
theorem ins89 : ∀ q ∈ I89, insP 89 q.1 = some q.2 := ins_of rfl (by decide +kernel)
set_option maxRecDepth 1000000 in
theorem ins90 : ∀ q ∈ I90, insP 90 q.1 = some q.2 := ins_of rfl (by decide +kernel)
set_option maxRecDepth 1000000 in
theorem ins91 : ∀ q ∈ I91, insP 91 q.1 = some q.2 := ins_of rfl (by decide +kernel)
set_option maxRecDepth 1000000 in
theorem ins92 : ∀ q ∈ I92, insP 92 q.1 = some q.2 := ins_of rfl (by decide +kernel)
set_option maxRecDepth 1000000 in
theorem ins93 : ∀ q ∈ I93, insP 93 q.1 = some q.2 := ins_of rfl (by decide +kernel)
set_option maxRecDepth 1000000 in
theorem ins94 : ∀ q ∈ I94, insP 94 q.1 = some q.2 := ins_of rfl (by decide +kernel)
set_option maxRecDepth 1000000 in
theorem ins95 : ∀ q ∈ I95, insP 95 q.1 = some q.2 := ins_of rfl (by decide +kernel)
set_option maxRecDepth 1000000 in
theorem ins96 : ∀ q ∈ I96, insP 96 q.1 = some q.2 := ins_of rfl (by decide +kernel)
set_option maxRecDepth 1000000 in
theorem ins97 : ∀ q ∈ I97, insP 97 q.1 = some q.2 := ins_of rfl (by decide +kernel)
set_option maxRecDepth 1000000 in
theorem ins98 : ∀ q ∈ I98, insP 98 q.1 = some q.2 := ins_of rfl (by decide +kernel)
set_option maxRecDepth 1000000 in
theorem ins99 : ∀ q ∈ I99, insP 99 q.1 = some q.2 := ins_of rfl (by decide +kernel)
set_option maxRecDepth 1000000 in
theorem ins100 : ∀ q ∈ I100, insP 100 q.1 = some q.2 := ins_of rfl (by decide +kernel)
set_option maxRecDepth 1000000 in
theorem ins101 : ∀ q ∈ I101, insP 101 q.1 = some q.2 := ins_of rfl (by decide +kernel)
set_option maxRecDepth 1000000 in
theorem ins102 : ∀ q ∈ I102, insP 102 q.1 = some q.2 := ins_of rfl (by decide +kernel)
set_option maxRecDepth 1000000 in
theorem ins103 : ∀ q ∈ I103, insP 103 q.1 = some q.2 := ins_of rfl (by decide +kernel)
set_option maxRecDepth 1000000 in
theorem ins104 : ∀ q ∈ I104, insP 104 q.1 = some q.2 := ins_of rfl (by decide +kernel)
set_option maxRecDepth 1000000 in
theorem ins105 : ∀ q ∈ I105, insP 105 q.1 = some q.2 := ins_of rfl (by decide +kernel)
set_option maxRecDepth 1000000 in
theorem ins106 : ∀ q ∈ I106, insP 106 q.1 = some q.2 := ins_of rfl (by decide +kernel)
set_option maxRecDepth 1000000 in
theorem ins108 : ∀ q ∈ I108, insP 108 q.1 = some q.2 := ins_of rfl (by decide +kernel)
set_option maxRecDepth 1000000 in
theorem ins109 : ∀ q ∈ I109, insP 109 q.1 = some q.2 := ins_of rfl (by decide +kernel)
set_option maxRecDepth 1000000 in
theorem ins110 : ∀ q ∈ I110, insP 110 q.1 = some q.2 := ins_of rfl (by decide +kernel)
set_option maxRecDepth 1000000 in
theorem ins111 : ∀ q ∈ I111, insP 111 q.1 = some q.2 := ins_of rfl (by decide +kernel)
set_option maxRecDepth 1000000 in
theorem ins112 : ∀ q ∈ I112, insP 112 q.1 = some q.2 := ins_of rfl (by decide +kernel)
set_option maxRecDepth 1000000 in
theorem ins113 : ∀ q ∈ I113, insP 113 q.1 = some q.2 := ins_of rfl (by decide +kernel)
set_option maxRecDepth 1000000 in
theorem ins114 : ∀ q ∈ I114, insP 114 q.1 = some q.2 := ins_of rfl (by decide +kernel)
set_option maxRecDepth 1000000 in
theorem ins115 : ∀ q ∈ I115, insP 115 q.1 = some q.2 := ins_of rfl (by decide +kernel)
set_option maxRecDepth 1000000 in
theorem ins116 : ∀ q ∈ I116, insP 116 q.1 = some q.2 := ins_of rfl (by decide +kernel)
set_option maxRecDepth 1000000 in
theorem ins117 : ∀ q ∈ I117, insP 117 q.1 = some q.2 := ins_of rfl (by decide +kernel)
set_option maxRecDepth 1000000 in
theorem ins118 : ∀ q ∈ I118, insP 118 q.1 = some q.2 := ins_of rfl (by decide +kernel)
set_option maxRecDepth 1000000 in
theorem ins119 : ∀ q ∈ I119, insP 119 q.1 = some q.2 := ins_of rfl (by decide +kernel)
set_option maxRecDepth 1000000 in
theorem ins120 : ∀ q ∈ I120, insP 120 q.1 = some q.2 := ins_of rfl (by decide +kernel)
set_option maxRecDepth 1000000 in
theorem ins121 : ∀ q ∈ I121, insP 121 q.1 = some q.2 := ins_of rfl (by decide +kernel)
set_option maxRecDepth 1000000 in
theorem ins122 : ∀ q ∈ I122, insP 122 q.1 = some q.2 := ins_of rfl (by decide +kernel)
set_option maxRecDepth 1000000 in
theorem ins123 : ∀ q ∈ I123, insP 123 q.1 = some q.2 := ins_of rfl (by decide +kernel)
set_option maxRecDepth 1000000 in
theorem ins124 : ∀ q ∈ I124, insP 124 q.1 = some q.2 := ins_of rfl (by decide +kernel)
set_option maxRecDepth 1000000 in
theorem ins125 : ∀ q ∈ I125, insP 125 q.1 = some q.2 := ins_of rfl (by decide +kernel)
set_option maxRecDepth 1000000 in
theorem ins126 : ∀ q ∈ I126, insP 126 q.1 = some q.2 := ins_of rfl (by decide +kernel)
set_option maxRecDepth 1000000 in
theorem ins127 : ∀ q ∈ I127, insP 127 q.1 = some q.2 := ins_of rfl (by decide +kernel)
set_option maxRecDepth 1000000 in
theorem ins128 : ∀ q ∈ I128, insP 128 q.1 = some q.2 := ins_of rfl (by decide +kernel)
set_option maxRecDepth 1000000 in
theorem ins129 : ∀ q ∈ I129, insP 129 q.1 = some q.2 := ins_of rfl (by decide +kernel)
set_option maxRecDepth 1000000 in
theorem ins130 : ∀ q ∈ I130, insP 130 q.1 = some q.2 := ins_of rfl (by decide +kernel)
set_option maxRecDepth 1000000 in
theorem ins131 : ∀ q ∈ I131, insP 131 q.1 = some q.2 := ins_of rfl (by decide +kernel)
set_option maxRecDepth 1000000 in
theorem ins132 : ∀ q ∈ I132, insP 132 q.1 = some q.2 := ins_of rfl (by decide +kernel)
set_option maxRecDepth 1000000 in
theorem ins133 : ∀ q ∈ I133, insP 133 q.1 = some q.2 := ins_of rfl (by decide +kernel)
set_option maxRecDepth 1000000 in
theorem ins134 : ∀ q ∈ I134, insP 134 q.1 = some q.2 := ins_of rfl (by decide +kernel)
set_option maxRecDepth 1000000 in
theorem ins135 : ∀ q ∈ I135, insP 135 q.1 = some q.2 := ins_of rfl (by decide +kernel)
set_option maxRecDepth 1000000 in
theorem ins136 : ∀ q ∈ I136, insP 136 q.1 = some q.2 := ins_of rfl (by decide +kernel)
set_option maxRecDepth 1000000 in
theorem ins137 : ∀ q ∈ I137, insP 137 q.1 = some q.2 := ins_of rfl (by decide +kernel)
set_option maxRecDepth 1000000 in
theorem ins138 : ∀ q ∈ I138, insP 138 q.1 = some q.2 := ins_of rfl (by decide +kernel)
set_option maxRecDepth 1000000 in
theorem ins139 : ∀ q ∈ I139, insP 139 q.1 = some q.2 := ins_of rfl (by decide +kernel)
set_option maxRecDepth 1000000 in
theorem ins141 : ∀ q ∈ I141, insP 141 q.1 = some q.2 := ins_of rfl (by decide +kernel)
set_option maxRecDepth 1000000 in
theorem ins142 : ∀ q ∈ I142, insP 142 q.1 = some q.2 := ins_of rfl (by decide +kernel)
set_option maxRecDepth 1000000 in
theorem ins143 : ∀ q ∈ I143, insP 143 q.1 = some q.2 := ins_of rfl (by decide +kernel)
set_option maxRecDepth 1000000 in
theorem ins144 : ∀ q ∈ I144, insP 144 q.1 = some q.2 := ins_of rfl (by decide +kernel)
set_option maxRecDepth 1000000 in
theorem ins145 : ∀ q ∈ I145, insP 145 q.1 = some q.2 := ins_of rfl (by decide +kernel)
set_option maxRecDepth 1000000 in
theorem ins146 : ∀ q ∈ I146, insP 146 q.1 = some q.2 := ins_of rfl (by decide +kernel)
set_option maxRecDepth 1000000 in
theorem ins147 : ∀ q ∈ I147, insP 147 q.1 = some q.2 := ins_of rfl (by decide +kernel)
set_option maxRecDepth 1000000 in
theorem ins148 : ∀ q ∈ I148, insP 148 q.1 = some q.2 := ins_of rfl (by decide +kernel)
set_option maxRecDepth 1000000 in
theorem ins149 : ∀ q ∈ I149, insP 149 q.1 = some q.2 := ins_of rfl (by decide +kernel)
set_option maxRecDepth 1000000 in
theorem ins150 : ∀ q ∈ I150, insP 150 q.1 = some q.2 := ins_of rfl (by decide +kernel)
set_option maxRecDepth 1000000 in
theorem ins151 : ∀ q ∈ I151, insP 151 q.1 = some q.2 := ins_of rfl (by decide +kernel)
set_option maxRecDepth 1000000 in
theorem ins152 : ∀ q ∈ I152, insP 152 q.1 = some q.2 := ins_of rfl (by decide +kernel)
set_option maxRecDepth 1000000 in
theorem ins153 : ∀ q ∈ I153, insP 153 q.1 = some q.2 := ins_of rfl (by decide +kernel)
set_option maxRecDepth 1000000 in
theorem ins154 : ∀ q ∈ I154, insP 154 q.1 = some q.2 := ins_of rfl (by decide +kernel)
set_option maxRecDepth 1000000 in
theorem ins155 : ∀ q ∈ I155, insP 155 q.1 = some q.2 := ins_of rfl (by decide +kernel)
set_option maxRecDepth 1000000 in
theorem ins156 : ∀ q ∈ I156, insP 156 q.1 = some q.2 := ins_of rfl (by decide +kernel)
set_option maxRecDepth 1000000 in
theorem ins157 : ∀ q ∈ I157, insP 157 q.1 = some q.2 := ins_of rfl (by decide +kernel)
set_option maxRecDepth 1000000 in
theorem ins158 : ∀ q ∈ I158, insP 158 q.1 = some q.2 := ins_of rfl (by decide +kernel)
set_option maxRecDepth 1000000 in
theorem ins159 : ∀ q ∈ I159, insP 159 q.1 = some q.2 := ins_of rfl (by decide +kernel)
set_option maxRecDepth 1000000 in
theorem ins161 : ∀ q ∈ I161, insP 161 q.1 = some q.2 := ins_of rfl (by decide +kernel)
set_option maxRecDepth 1000000 in
theorem ins162 : ∀ q ∈ I162, insP 162 q.1 = some q.2 := ins_of rfl (by decide +kernel)
set_option maxRecDepth 1000000 in
theorem ins163 : ∀ q ∈ I163, insP 163 q.1 = some q.2 := ins_of rfl (by decide +kernel)
set_option maxRecDepth 1000000 in
theorem ins164 : ∀ q ∈ I164, insP 164 q.1 = some q.2 := ins_of rfl (by decide +kernel)
set_option maxRecDepth 1000000 in
theorem ins165 : ∀ q ∈ I165, insP 165 q.1 = some q.2 := ins_of rfl (by decide +kernel)
set_option maxRecDepth 1000000 in
theorem ins166 : ∀ q ∈ I166, insP 166 q.1 = some q.2 := ins_of rfl (by decide +kernel)
set_option maxRecDepth 1000000 in
theorem ins167 : ∀ q ∈ I167, insP 167 q.1 = some q.2 := ins_of rfl (by decide +kernel)
set_option maxRecDepth 1000000 in
theorem ins168 : ∀ q ∈ I168, insP 168 q.1 = some q.2 := ins_of rfl (by decide +kernel)
set_option maxRecDepth 1000000 in
theorem ins169 : ∀ q ∈ I169, insP 169 q.1 = some q.2 := ins_of rfl (by decide +kernel)
set_option maxRecDepth 1000000 in
theorem ins170 : ∀ q ∈ I170, insP 170 q.1 = some q.2 := ins_of rfl (by decide +kernel)
set_option maxRecDepth 1000000 in
theorem ins171 : ∀ q ∈ I171, insP 171 q.1 = some q.2 := ins_of rfl (by decide +kernel)
set_option maxRecDepth 1000000 in
theorem ins172 : ∀ q ∈ I172, insP 172 q.1 = some q.2 := ins_of rfl (by decide +kernel)
set_option maxRecDepth 1000000 in
theorem ins173 : ∀ q ∈ I173, insP 173 q.1 = some q.2 := ins_of rfl (by decide +kernel)
set_option maxRecDepth 1000000 in
theorem ins174 : ∀ q ∈ I174, insP 174 q.1 = some q.2 := ins_of rfl (by decide +kernel)
set_option maxRecDepth 1000000 in
theorem ins175 : ∀ q ∈ I175, insP 175 q.1 = some q.2 := ins_of rfl (by decide +kernel)
set_option maxRecDepth 1000000 in
theorem ins176 : ∀ q ∈ I176, insP 176 q.1 = some q.2 := ins_of rfl (by decide +kernel)
set_option maxRecDepth 1000000 in
theorem ins177 : ∀ q ∈ I177, insP 177 q.1 = some q.2 := ins_of rfl (by decide +kernel)
set_option maxRecDepth 1000000 in
theorem ins178 : ∀ q ∈ I178, insP 178 q.1 = some q.2 := ins_of rfl (by decide +kernel)
set_option maxRecDepth 1000000 in
theorem ins179 : ∀ q ∈ I179, insP 179 q.1 = some q.2 := ins_of rfl (by decide +kernel)
set_option maxRecDepth 1000000 in
theorem ins180 : ∀ q ∈ I180, insP 180 q.1 = some q.2 := ins_of rfl (by decide +kernel)
set_option maxRecDepth 1000000 in
theorem ins181 : ∀ q ∈ I181, insP 181 q.1 = some q.2 := ins_of rfl (by decide +kernel)
set_option maxRecDepth 1000000 in
theorem ins183 : ∀ q ∈ I183, insP 183 q.1 = some q.2 := ins_of rfl (by decide +kernel)
set_option maxRecDepth 1000000 in
theorem ins184 : ∀ q ∈ I184, insP 184 q.1 = some q.2 := ins_of rfl (by decide +kernel)
set_option maxRecDepth 1000000 in
theorem ins185 : ∀ q ∈ I185, insP 185 q.1 = some q.2 := ins_of rfl (by decide +kernel)
set_option maxRecDepth 1000000 in
theorem ins186 : ∀ q ∈ I186, insP 186 q.1 = some q.2 := ins_of rfl (by decide +kernel)
set_option maxRecDepth 1000000 in
theorem ins187 : ∀ q ∈ I187, insP 187 q.1 = some q.2 := ins_of rfl (by decide +kernel)
set_option maxRecDepth 1000000 in
theorem ins188 : ∀ q ∈ I188, insP 188 q.1 = some q.2 := ins_of rfl (by decide +kernel)
set_option maxRecDepth 1000000 in
theorem ins189 : ∀ q ∈ I189, insP 189 q.1 = some q.2 := ins_of rfl (by decide +kernel)
set_option maxRecDepth 1000000 in
theorem ins190 : ∀ q ∈ I190, insP 190 q.1 = some q.2 := ins_of rfl (by decide +kernel)
set_option maxRecDepth 1000000 in
theorem ins191 : ∀ q ∈ I191, insP 191 q.1 = some q.2 := ins_of rfl (by decide +kernel)
set_option maxRecDepth 1000000 in
theorem ins192 : ∀ q ∈ I192, insP 192 q.1 = some q.2 := ins_of rfl (by decide +kernel)
set_option maxRecDepth 1000000 in
theorem ins193 : ∀ q ∈ I193, insP 193 q.1 = some q.2 := ins_of rfl (by decide +kernel)
set_option maxRecDepth 1000000 in
theorem ins194 : ∀ q ∈ I194, insP 194 q.1 = some q.2 := ins_of rfl (by decide +kernel)
set_option maxRecDepth 1000000 in
theorem ins196 : ∀ q ∈ I196, insP 196 q.1 = some q.2 := ins_of rfl (by decide +kernel)
set_option maxRecDepth 1000000 in
theorem ins197 : ∀ q ∈ I197, insP 197 q.1 = some q.2 := ins_of rfl (by decide +kernel)
set_option maxRecDepth 1000000 in
theorem ins198 : ∀ q ∈ I198, insP 198 q.1 = some q.2 := ins_of rfl (by decide +kernel)
set_option maxRecDepth 1000000 in
theorem ins199 : ∀ q ∈ I199, insP 199 q.1 = some q.2 := ins_of rfl (by decide +kernel)
set_option maxRecDepth 1000000 in
theorem ins200 : ∀ q ∈ I200, insP 200 q.1 = some q.2 := ins_of rfl (by decide +kernel)
set_option maxRecDepth 1000000 in
theorem ins201 : ∀ q ∈ I201, insP 201 q.1 = some q.2 := ins_of rfl (by decide +kernel)
set_option maxRecDepth 1000000 in
theorem ins202 : ∀ q ∈ I202, insP 202 q.1 = some q.2 := ins_of rfl (by decide +kernel)
set_option maxRecDepth 1000000 in
theorem ins203 : ∀ q ∈ I203, insP 203 q.1 = some q.2 := ins_of rfl (by decide +kernel)
set_option maxRecDepth 1000000 in
theorem ins204 : ∀ q ∈ I204, insP 204 q.1 = some q.2 := ins_of rfl (by decide +kernel)
set_option maxRecDepth 1000000 in
theorem ins205 : ∀ q ∈ I205, insP 205 q.1 = some q.2 := ins_of rfl (by decide +kernel)
set_option maxRecDepth 1000000 in
theorem ins206 : ∀ q ∈ I206, insP 206 q.1 = some q.2 := ins_of rfl (by decide +kernel)
set_option maxRecDepth 1000000 in
theorem ins207 : ∀ q ∈ I207, insP 207 q.1 = some q.2 := ins_of rfl (by decide +kernel)
set_option maxRecDepth 1000000 in
theorem ins208 : ∀ q ∈ I208, insP 208 q.1 = some q.2 := ins_of rfl (by decide +kernel)
set_option maxRecDepth 1000000 in
theorem ins209 : ∀ q ∈ I209, insP 209 q.1 = some q.2 := ins_of rfl (by decide +kernel)
set_option maxRecDepth 1000000 in
theorem ins210 : ∀ q ∈ I210, insP 210 q.1 = some q.2 := ins_of rfl (by decide +kernel)
set_option maxRecDepth 1000000 in
theorem ins211 : ∀ q ∈ I211, insP 211 q.1 = some q.2 := ins_of rfl (by decide +kernel)
set_option maxRecDepth 1000000 in
theorem ins212 : ∀ q ∈ I212, insP 212 q.1 = some q.2 := ins_of rfl (by decide +kernel)
set_option maxRecDepth 1000000 in
theorem ins213 : ∀ q ∈ I213, insP 213 q.1 = some q.2 := ins_of rfl (by decide +kernel)
set_option maxRecDepth 1000000 in
theorem ins214 : ∀ q ∈ I214, insP 214 q.1 = some q.2 := ins_of rfl (by decide +kernel)
set_option maxRecDepth 1000000 in
theorem ins216 : ∀ q ∈ I216, insP 216 q.1 = some q.2 := ins_of rfl (by decide +kernel)
set_option maxRecDepth 1000000 in
theorem ins217 : ∀ q ∈ I217, insP 217 q.1 = some q.2 := ins_of rfl (by decide +kernel)
set_option maxRecDepth 1000000 in
theorem ins218 : ∀ q ∈ I218, insP 218 q.1 = some q.2 := ins_of rfl (by decide +kernel)
set_option maxRecDepth 1000000 in
theorem ins219 : ∀ q ∈ I219, insP 219 q.1 = some q.2 := ins_of rfl (by decide +kernel)
set_option maxRecDepth 1000000 in
theorem ins220 : ∀ q ∈ I220, insP 220 q.1 = some q.2 := ins_of rfl (by decide +kernel)
set_option maxRecDepth 1000000 in
theorem ins221 : ∀ q ∈ I221, insP 221 q.1 = some q.2 := ins_of rfl (by decide +kernel)
set_option maxRecDepth 1000000 in
theorem ins222 : ∀ q ∈ I222, insP 222 q.1 = some q.2 := ins_of rfl (by decide +kernel)
set_option maxRecDepth 1000000 in
theorem ins223 : ∀ q ∈ I223, insP 223 q.1 = some q.2 := ins_of rfl (by decide +kernel)
set_option maxRecDepth 1000000 in
theorem ins224 : ∀ q ∈ I224, insP 224 q.1 = some q.2 := ins_of rfl (by decide +kernel)
set_option maxRecDepth 1000000 in
theorem ins226 : ∀ q ∈ I226, insP 226 q.1 = some q.2 := ins_of rfl (by decide +kernel)
set_option maxRecDepth 1000000 in
theorem ins227 : ∀ q ∈ I227, insP 227 q.1 = some q.2 := ins_of rfl (by decide +kernel)
set_option maxRecDepth 1000000 in
theorem ins228 : ∀ q ∈ I228, insP 228 q.1 = some q.2 := ins_of rfl (by decide +kernel)
set_option maxRecDepth 1000000 in
theorem ins229 : ∀ q ∈ I229, insP 229 q.1 = some q.2 := ins_of rfl (by decide +kernel)
set_option maxRecDepth 1000000 in
theorem ins230 : ∀ q ∈ I230, insP 230 q.1 = some q.2 := ins_of rfl (by decide +kernel)
set_option maxRecDepth 1000000 in
theorem ins231 : ∀ q ∈ I231, insP 231 q.1 = some q.2 := ins_of rfl (by decide +kernel)
set_option maxRecDepth 1000000 in
theorem ins232 : ∀ q ∈ I232, insP 232 q.1 = some q.2 := ins_of rfl (by decide +kernel)
set_option maxRecDepth 1000000 in
theorem ins233 : ∀ q ∈ I233, insP 233 q.1 = some q.2 := ins_of rfl (by decide +kernel)
set_option maxRecDepth 1000000 in
theorem ins234 : ∀ q ∈ I234, insP 234 q.1 = some q.2 := ins_of rfl (by decide +kernel)
set_option maxRecDepth 1000000 in
theorem ins235 : ∀ q ∈ I235, insP 235 q.1 = some q.2 := ins_of rfl (by decide +kernel)
set_option maxRecDepth 1000000 in
theorem ins236 : ∀ q ∈ I236, insP 236 q.1 = some q.2 := ins_of rfl (by decide +kernel)
set_option maxRecDepth 1000000 in
theorem ins237 : ∀ q ∈ I237, insP 237 q.1 = some q.2 := ins_of rfl (by decide +kernel)
set_option maxRecDepth 1000000 in
theorem ins238 : ∀ q ∈ I238, insP 238 q.1 = some q.2 := ins_of rfl (by decide +kernel)
set_option maxRecDepth 1000000 in
theorem ins239 : ∀ q ∈ I239, insP 239 q.1 = some q.2 := ins_of rfl (by decide +kernel)
set_option maxRecDepth 1000000 in
theorem ins240 : ∀ q ∈ I240, insP 240 q.1 = some q.2 := ins_of rfl (by decide +kernel)
set_option maxRecDepth 1000000 in
theorem ins241 : ∀ q ∈ I241, insP 241 q.1 = some q.2 := ins_of rfl (by decide +kernel)
set_option maxRecDepth 1000000 in
theorem ins242 : ∀ q ∈ I242, insP 242 q.1 = some q.2 := ins_of rfl (by decide +kernel)
set_option maxRecDepth 1000000 in
theorem ins243 : ∀ q ∈ I243, insP 243 q.1 = some q.2 := ins_of rfl (by decide +kernel)
set_option maxRecDepth 1000000 in
theorem ins244 : ∀ q ∈ I244, insP 244 q.1 = some q.2 := ins_of rfl (by decide +kernel)
set_option maxRecDepth 1000000 in
theorem ins245 : ∀ q ∈ I245, insP 245 q.1 = some q.2 := ins_of rfl (by decide +kernel)
set_option maxRecDepth 1000000 in
theorem ins246 : ∀ q ∈ I246, insP 246 q.1 = some q.2 := ins_of rfl (by decide +kernel)
set_option maxRecDepth 1000000 in
theorem ins247 : ∀ q ∈ I247, insP 247 q.1 = some q.2 := ins_of rfl (by decide +kernel)
set_option maxRecDepth 1000000 in
theorem ins248 : ∀ q ∈ I248, insP 248 q.1 = some q.2 := ins_of rfl (by decide +kernel)
set_option maxRecDepth 1000000 in
theorem ins249 : ∀ q ∈ I249, insP 249 q.1 = some q.2 := ins_of rfl (by decide +kernel)
set_option maxRecDepth 1000000 in
theorem ins251 : ∀ q ∈ I251, insP 251 q.1 = some q.2 := ins_of rfl (by decide +kernel)
set_option maxRecDepth 1000000 in
theorem ins252 : ∀ q ∈ I252, insP 252 q.1 = some q.2 := ins_of rfl (by decide +kernel)
set_option maxRecDepth 1000000 in
theorem ins253 : ∀ q ∈ I253, insP 253 q.1 = some q.2 := ins_of rfl (by decide +kernel)
set_option maxRecDepth 1000000 in
theorem ins254 : ∀ q ∈ I254, insP 254 q.1 = some q.2 := ins_of rfl (by decide +kernel)
set_option maxRecDepth 1000000 in
theorem ins255 : ∀ q ∈ I255, insP 255 q.1 = some q.2 := ins_of rfl (by decide +kernel)
set_option maxRecDepth 1000000 in
theorem ins256 : ∀ q ∈ I256, insP 256 q.1 = some q.2 := ins_of rfl (by decide +kernel)
set_option maxRecDepth 1000000 in
theorem ins257 : ∀ q ∈ I257, insP 257 q.1 = some q.2 := ins_of rfl (by decide +kernel)
set_option maxRecDepth 1000000 in
theorem ins258 : ∀ q ∈ I258, insP 258 q.1 = some q.2 := ins_of rfl (by decide +kernel)
set_option maxRecDepth 1000000 in
theorem ins259 : ∀ q ∈ I259, insP 259 q.1 = some q.2 := ins_of rfl (by decide +kernel)
set_option maxRecDepth 1000000 in
theorem ins260 : ∀ q ∈ I260, insP 260 q.1 = some q.2 := ins_of rfl (by decide +kernel)
set_option maxRecDepth 1000000 in
theorem ins261 : ∀ q ∈ I261, insP 261 q.1 = some q.2 := ins_of rfl (by decide +kernel)
set_option maxRecDepth 1000000 in
theorem ins262 : ∀ q ∈ I262, insP 262 q.1 = some q.2 := ins_of rfl (by decide +kernel)
set_option maxRecDepth 1000000 in
theorem ins263 : ∀ q ∈ I263, insP 263 q.1 = some q.2 := ins_of rfl (by decide +kernel)
set_option maxRecDepth 1000000 in
theorem ins264 : ∀ q ∈ I264, insP 264 q.1 = some q.2 := ins_of rfl (by decide +kernel)
set_option maxRecDepth 1000000 in
theorem ins265 : ∀ q ∈ I265, insP 265 q.1 = some q.2 := ins_of rfl (by decide +kernel)
set_option maxRecDepth 1000000 in
theorem ins266 : ∀ q ∈ I266, insP 266 q.1 = some q.2 := ins_of rfl (by decide +kernel)
set_option maxRecDepth 1000000 in
theorem ins267 : ∀ q ∈ I267, insP 267 q.1 = some q.2 := ins_of rfl (by decide +kernel)
set_option maxRecDepth 1000000 in
theorem ins268 : ∀ q ∈ I268, insP 268 q.1 = some q.2 := ins_of rfl (by decide +kernel)
set_option maxRecDepth 1000000 in
theorem ins269 : ∀ q ∈ I269, insP 269 q.1 = some q.2 := ins_of rfl (by decide +kernel)
set_option maxRecDepth 1000000 in
theorem ins270 : ∀ q ∈ I270, insP 270 q.1 = some q.2 := ins_of rfl (by decide +kernel)
set_option maxRecDepth 1000000 in
theorem ins271 : ∀ q ∈ I271, insP 271 q.1 = some q.2 := ins_of rfl (by decide +kernel)
set_option maxRecDepth 1000000 in
theorem ins272 : ∀ q ∈ I272, insP 272 q.1 = some q.2 := ins_of rfl (by decide +kernel)
set_option maxRecDepth 1000000 in
theorem ins273 : ∀ q ∈ I273, insP 273 q.1 = some q.2 := ins_of rfl (by decide +kernel)
set_option maxRecDepth 1000000 in
theorem ins274 : ∀ q ∈ I274, insP 274 q.1 = some q.2 := ins_of rfl (by decide +kernel)
set_option maxRecDepth 1000000 in
theorem ins275 : ∀ q ∈ I275, insP 275 q.1 = some q.2 := ins_of rfl (by decide +kernel)
set_option maxRecDepth 1000000 in
theorem ins276 : ∀ q ∈ I276, insP 276 q.1 = some q.2 := ins_of rfl (by decide +kernel)
set_option maxRecDepth 1000000 in
theorem ins277 : ∀ q ∈ I277, insP 277 q.1 = some q.2 := ins_of rfl (by decide +kernel)
set_option maxRecDepth 1000000 in
theorem ins278 : ∀ q ∈ I278, insP 278 q.1 = some q.2 := ins_of rfl (by decide +kernel)
set_option maxRecDepth 1000000 in
theorem ins279 : ∀ q ∈ I279, insP 279 q.1 = some q.2 := ins_of rfl (by decide +kernel)
set_option maxRecDepth 1000000 in
theorem ins280 : ∀ q ∈ I280, insP 280 q.1 = some q.2 := ins_of rfl (by decide +kernel)
set_option maxRecDepth 1000000 in
theorem ins282 : ∀ q ∈ I282, insP 282 q.1 = some q.2 := ins_of rfl (by decide +kernel)
set_option maxRecDepth 1000000 in
theorem ins283 : ∀ q ∈ I283, insP 283 q.1 = some q.2 := ins_of rfl (by decide +kernel)
set_option maxRecDepth 1000000 in
theorem ins284 : ∀ q ∈ I284, insP 284 q.1 = some q.2 := ins_of rfl (by decide +kernel)
set_option maxRecDepth 1000000 in
theorem ins285 : ∀ q ∈ I285, insP 285 q.1 = some q.2 := ins_of rfl (by decide +kernel)
set_option maxRecDepth 1000000 in
theorem ins286 : ∀ q ∈ I286, insP 286 q.1 = some q.2 := ins_of rfl (by decide +kernel)
set_option maxRecDepth 1000000 in
theorem ins287 : ∀ q ∈ I287, insP 287 q.1 = some q.2 := ins_of rfl (by decide +kernel)
set_option maxRecDepth 1000000 in
theorem ins288 : ∀ q ∈ I288, insP 288 q.1 = some q.2 := ins_of rfl (by decide +kernel)
set_option maxRecDepth 1000000 in
theorem ins289 : ∀ q ∈ I289, insP 289 q.1 = some q.2 := ins_of rfl (by decide +kernel)
set_option maxRecDepth 1000000 in
theorem ins290 : ∀ q ∈ I290, insP 290 q.1 = some q.2 := ins_of rfl (by decide +kernel)
set_option maxRecDepth 1000000 in
theorem ins291 : ∀ q ∈ I291, insP 291 q.1 = some q.2 := ins_of rfl (by decide +kernel)
set_option maxRecDepth 1000000 in
theorem ins292 : ∀ q ∈ I292, insP 292 q.1 = some q.2 := ins_of rfl (by decide +kernel)
set_option maxRecDepth 1000000 in
theorem ins293 : ∀ q ∈ I293, insP 293 q.1 = some q.2 := ins_of rfl (by decide +kernel)
set_option maxRecDepth 1000000 in
theorem ins294 : ∀ q ∈ I294, insP 294 q.1 = some q.2 := ins_of rfl (by decide +kernel)
set_option maxRecDepth 1000000 in
theorem ins295 : ∀ q ∈ I295, insP 295 q.1 = some q.2 := ins_of rfl (by decide +kernel)
set_option maxRecDepth 1000000 in
theorem ins296 : ∀ q ∈ I296, insP 296 q.1 = some q.2 := ins_of rfl (by decide +kernel)
set_option maxRecDepth 1000000 in
theorem ins297 : ∀ q ∈ I297, insP 297 q.1 = some q.2 := ins_of rfl (by decide +kernel)
set_option maxRecDepth 1000000 in
theorem ins298 : ∀ q ∈ I298, insP 298 q.1 = some q.2 := ins_of rfl (by decide +kernel)
set_option maxRecDepth 1000000 in
theorem ins299 : ∀ q ∈ I299, insP 299 q.1 = some q.2 := ins_of rfl (by decide +kernel)
set_option maxRecDepth 1000000 in
theorem ins300 : ∀ q ∈ I300, insP 300 q.1 = some q.2 := ins_of rfl (by decide +kernel)
set_option maxRecDepth 1000000 in
theorem ins301 : ∀ q ∈ I301, insP 301 q.1 = some q.2 := ins_of rfl (by decide +kernel)
set_option maxRecDepth 1000000 in
theorem ins302 : ∀ q ∈ I302, insP 302 q.1 = some q.2 := ins_of rfl (by decide +kernel)
set_option maxRecDepth 1000000 in
theorem ins303 : ∀ q ∈ I303, insP 303 q.1 = some q.2 := ins_of rfl (by decide +kernel)
set_option maxRecDepth 1000000 in
theorem ins304 : ∀ q ∈ I304, insP 304 q.1 = some q.2 := ins_of rfl (by decide +kernel)
set_option maxRecDepth 1000000 in
theorem ins305 : ∀ q ∈ I305, insP 305 q.1 = some q.2 := ins_of rfl (by decide +kernel)
set_option maxRecDepth 1000000 in
theorem ins306 : ∀ q ∈ I306, insP 306 q.1 = some q.2 := ins_of rfl (by decide +kernel)
set_option maxRecDepth 1000000 in
theorem ins307 : ∀ q ∈ I307, insP 307 q.1 = some q.2 := ins_of rfl (by decide +kernel)
set_option maxRecDepth 1000000 in
theorem ins308 : ∀ q ∈ I308, insP 308 q.1 = some q.2 := ins_of rfl (by decide +kernel)
set_option maxRecDepth 1000000 in
theorem ins309 : ∀ q ∈ I309, insP 309 q.1 = some q.2 := ins_of rfl (by decide +kernel)
set_option maxRecDepth 1000000 in
theorem ins310 : ∀ q ∈ I310, insP 310 q.1 = some q.2 := ins_of rfl (by decide +kernel)
set_option maxRecDepth 1000000 in
theorem ins311 : ∀ q ∈ I311, insP 311 q.1 = some q.2 := ins_of rfl (by decide +kernel)
set_option maxRecDepth 1000000 in
theorem ins312 : ∀ q ∈ I312, insP 312 q.1 = some q.2 := ins_of rfl (by decide +kernel)
set_option maxRecDepth 1000000 in
theorem ins313 : ∀ q ∈ I313, insP 313 q.1 = some q.2 := ins_of rfl (by decide +kernel)
set_option maxRecDepth 1000000 in
theorem ins314 : ∀ q ∈ I314, insP 314 q.1 = some q.2 := ins_of rfl (by decide +kernel)
set_option maxRecDepth 1000000 in
theorem ins315 : ∀ q ∈ I315, insP 315 q.1 = some q.2 := ins_of rfl (by decide +kernel)
set_option maxRecDepth 1000000 in
theorem ins316 : ∀ q ∈ I316, insP 316 q.1 = some q.2 := ins_of rfl (by decide +kernel)
set_option maxRecDepth 1000000 in
theorem ins317 : ∀ q ∈ I317, insP 317 q.1 = some q.2 := ins_of rfl (by decide +kernel)
set_option maxRecDepth 1000000 in
theorem ins318 : ∀ q ∈ I318, insP 318 q.1 = some q.2 := ins_of rfl (by decide +kernel)
set_option maxRecDepth 1000000 in
theorem ins319 : ∀ q ∈ I319, insP 319 q.1 = some q.2 := ins_of rfl (by decide +kernel)
set_option maxRecDepth 1000000 in
theorem ins320 : ∀ q ∈ I320, insP 320 q.1 = some q.2 := ins_of rfl (by decide +kernel)
set_option maxRecDepth 1000000 in
theorem ins321 : ∀ q ∈ I321, insP 321 q.1 = some q.2 := ins_of rfl (by decide +kernel)
set_option maxRecDepth 1000000 in
theorem ins322 : ∀ q ∈ I322, insP 322 q.1 = some q.2 := ins_of rfl (by decide +kernel)
set_option maxRecDepth 1000000 in
theorem ins323 : ∀ q ∈ I323, insP 323 q.1 = some q.2 := ins_of rfl (by decide +kernel)
set_option maxRecDepth 1000000 in
theorem ins324 : ∀ q ∈ I324, insP 324 q.1 = some q.2 := ins_of rfl (by decide +kernel)
set_option maxRecDepth 1000000 in
theorem ins325 : ∀ q ∈ I325, insP 325 q.1 = some q.2 := ins_of rfl (by decide +kernel)
set_option maxRecDepth 1000000 in
theorem ins326 : ∀ q ∈ I326, insP 326 q.1 = some q.2 := ins_of rfl (by decide +kernel)
set_option maxRecDepth 1000000 in
theorem ins327 : ∀ q ∈ I327, insP 327 q.1 = some q.2 := ins_of rfl (by decide +kernel)
set_option maxRecDepth 1000000 in
theorem ins328 : ∀ q ∈ I328, insP 328 q.1 = some q.2 := ins_of rfl (by decide +kernel)
set_option maxRecDepth 1000000 in
theorem ins329 : ∀ q ∈ I329, insP 329 q.1 = some q.2 := ins_of rfl (by decide +kernel)
set_option maxRecDepth 1000000 in
theorem ins330 : ∀ q ∈ I330, insP 330 q.1 = some q.2 := ins_of rfl (by decide +kernel)
set_option maxRecDepth 1000000 in
theorem ins331 : ∀ q ∈ I331, insP 331 q.1 = some q.2 := ins_of rfl (by decide +kernel)
set_option maxRecDepth 1000000 in
theorem ins332 : ∀ q ∈ I332, insP 332 q.1 = some q.2 := ins_of rfl (by decide +kernel)
set_option maxRecDepth 1000000 in
theorem ins333 : ∀ q ∈ I333, insP 333 q.1 = some q.2 := ins_of rfl (by decide +kernel)
set_option maxRecDepth 1000000 in
theorem ins334 : ∀ q ∈ I334, insP 334 q.1 = some q.2 := ins_of rfl (by decide +kernel)
set_option maxRecDepth 1000000 in
theorem ins335 : ∀ q ∈ I335, insP 335 q.1 = some q.2 := ins_of rfl (by decide +kernel)
set_option maxRecDepth 1000000 in
theorem ins336 : ∀ q ∈ I336, insP 336 q.1 = some q.2 := ins_of rfl (by decide +kernel)
set_option maxRecDepth 1000000 in
theorem ins337 : ∀ q ∈ I337, insP 337 q.1 = some q.2 := ins_of rfl (by decide +kernel)
set_option maxRecDepth 1000000 in
theorem ins338 : ∀ q ∈ I338, insP 338 q.1 = some q.2 := ins_of rfl (by decide +kernel)
set_option maxRecDepth 1000000 in
theorem ins339 : ∀ q ∈ I339, insP 339 q.1 = some q.2 := ins_of rfl (by decide +kernel)
set_option maxRecDepth 1000000 in
theorem ins340 : ∀ q ∈ I340, insP 340 q.1 = some q.2 := ins_of rfl (by decide +kernel)
set_option maxRecDepth 1000000 in
theorem ins341 : ∀ q ∈ I341, insP 341 q.1 = some q.2 := ins_of rfl (by decide +kernel)
set_option maxRecDepth 1000000 in
theorem ins342 : ∀ q ∈ I342, insP 342 q.1 = some q.2 := ins_of rfl (by decide +kernel)
set_option maxRecDepth 1000000 in
theorem ins343 : ∀ q ∈ I343, insP 343 q.1 = some q.2 := ins_of rfl (by decide +kernel)
set_option maxRecDepth 1000000 in
theorem ins344 : ∀ q ∈ I344, insP 344 q.1 = some q.2 := ins_of rfl (by decide +kernel)
set_option maxRecDepth 1000000 in
theorem ins345 : ∀ q ∈ I345, insP 345 q.1 = some q.2 := ins_of rfl (by decide +kernel)
set_option maxRecDepth 1000000 in
theorem ins346 : ∀ q ∈ I346, insP 346 q.1 = some q.2 := ins_of rfl (by decide +kernel)
set_option maxRecDepth 1000000 in
theorem ins347 : ∀ q ∈ I347, insP 347 q.1 = some q.2 := ins_of rfl (by decide +kernel)
set_option maxRecDepth 1000000 in
theorem ins348 : ∀ q ∈ I348, insP 348 q.1 = some q.2 := ins_of rfl (by decide +kernel)
set_option maxRecDepth 1000000 in
theorem ins349 : ∀ q ∈ I349, insP 349 q.1 = some q.2 := ins_of rfl (by decide +kernel)
set_option maxRecDepth 1000000 in
theorem ins350 : ∀ q ∈ I350, insP 350 q.1 = some q.2 := ins_of rfl (by decide +kernel)
set_option maxRecDepth 1000000 in
theorem ins351 : ∀ q ∈ I351, insP 351 q.1 = some q.2 := ins_of rfl (by decide +kernel)
set_option maxRecDepth 1000000 in
theorem ins352 : ∀ q ∈ I352, insP 352 q.1 = some q.2 := ins_of rfl (by decide +kernel)
set_option maxRecDepth 1000000 in
theorem ins353 : ∀ q ∈ I353, insP 353 q.1 = some q.2 := ins_of rfl (by decide +kernel)
set_option maxRecDepth 1000000 in
theorem ins354 : ∀ q ∈ I354, insP 354 q.1 = some q.2 := ins_of rfl (by decide +kernel)
set_option maxRecDepth 1000000 in
theorem ins355 : ∀ q ∈ I355, insP 355 q.1 = some q.2 := ins_of rfl (by decide +kernel)
set_option maxRecDepth 1000000 in
theorem ins356 : ∀ q ∈ I356, insP 356 q.1 = some q.2 := ins_of rfl (by decide +kernel)
set_option maxRecDepth 1000000 in
theorem ins357 : ∀ q ∈ I357, insP 357 q.1 = some q.2 := ins_of rfl (by decide +kernel)
set_option maxRecDepth 1000000 in
theorem ins358 : ∀ q ∈ I358, insP 358 q.1 = some q.2 := ins_of rfl (by decide +kernel)
set_option maxRecDepth 1000000 in
theorem ins359 : ∀ q ∈ I359, insP 359 q.1 = some q.2 := ins_of rfl (by decide +kernel)
set_option maxRecDepth 1000000 in
theorem ins360 : ∀ q ∈ I360, insP 360 q.1 = some q.2 := ins_of rfl (by decide +kernel)
set_option maxRecDepth 1000000 in
theorem ins361 : ∀ q ∈ I361, insP 361 q.1 = some q.2 := ins_of rfl (by decide +kernel)
set_option maxRecDepth 1000000 in
theorem ins362 : ∀ q ∈ I362, insP 362 q.1 = some q.2 := ins_of rfl (by decide +kernel)
set_option maxRecDepth 1000000 in
theorem ins363 : ∀ q ∈ I363, insP 363 q.1 = some q.2 := ins_of rfl (by decide +kernel)
set_option maxRecDepth 1000000 in
theorem ins364 : ∀ q ∈ I364, insP 364 q.1 = some q.2 := ins_of rfl (by decide +kernel)
set_option maxRecDepth 1000000 in
theorem ins365 : ∀ q ∈ I365, insP 365 q.1 = some q.2 := ins_of rfl (by decide +kernel)
set_option maxRecDepth 1000000 in
theorem ins366 : ∀ q ∈ I366, insP 366 q.1 = some q.2 := ins_of rfl (by decide +kernel)
set_option maxRecDepth 1000000 in
theorem ins367 : ∀ q ∈ I367, insP 367 q.1 = some q.2 := ins_of rfl (by decide +kernel)
set_option maxRecDepth 1000000 in
theorem ins368 : ∀ q ∈ I368, insP 368 q.1 = some q.2 := ins_of rfl (by decide +kernel)
set_option maxRecDepth 1000000 in
theorem ins369 : ∀ q ∈ I369, insP 369 q.1 = some q.2 := ins_of rfl (by decide +kernel)
set_option maxRecDepth 1000000 in
theorem ins370 : ∀ q ∈ I370, insP 370 q.1 = some q.2 := ins_of rfl (by decide +kernel)
set_option maxRecDepth 1000000 in
theorem ins371 : ∀ q ∈ I371, insP 371 q.1 = some q.2 := ins_of rfl (by decide +kernel)
set_option maxRecDepth 1000000 in
theorem ins372 : ∀ q ∈ I372, insP 372 q.1 = some q.2 := ins_of rfl (by decide +kernel)
set_option maxRecDepth 1000000 in
theorem ins373 : ∀ q ∈ I373, insP 373 q.1 = some q.2 := ins_of rfl (by decide +kernel)
set_option maxRecDepth 1000000 in
theorem ins374 : ∀ q ∈ I374, insP 374 q.1 = some q.2 := ins_of rfl (by decide +kernel)
set_option maxRecDepth 1000000 in
theorem ins375 : ∀ q ∈ I375, insP 375 q.1 = some q.2 := ins_of rfl (by decide +kernel)
set_option maxRecDepth 1000000 in
theorem ins376 : ∀ q ∈ I376, insP 376 q.1 = some q.2 := ins_of rfl (by decide +kernel)
set_option maxRecDepth 1000000 in
theorem ins377 : ∀ q ∈ I377, insP 377 q.1 = some q.2 := ins_of rfl (by decide +kernel)
set_option maxRecDepth 1000000 in
theorem ins378 : ∀ q ∈ I378, insP 378 q.1 = some q.2 := ins_of rfl (by decide +kernel)
set_option maxRecDepth 1000000 in
theorem ins379 : ∀ q ∈ I379, insP 379 q.1 = some q.2 := ins_of rfl (by decide +kernel)
set_option maxRecDepth 1000000 in
theorem ins380 : ∀ q ∈ I380, insP 380 q.1 = some q.2 := ins_of rfl (by decide +kernel)
set_option maxRecDepth 1000000 in
theorem ins381 : ∀ q ∈ I381, insP 381 q.1 = some q.2 := ins_of rfl (by decide +kernel)
set_option maxRecDepth 1000000 in
theorem ins382 : ∀ q ∈ I382, insP 382 q.1 = some q.2 := ins_of rfl (by decide +kernel)
set_option maxRecDepth 1000000 in
theorem ins383 : ∀ q ∈ I383, insP 383 q.1 = some q.2 := ins_of rfl (by decide +kernel)
set_option maxRecDepth 1000000 in
theorem ins384 : ∀ q ∈ I384, insP 384 q.1 = some q.2 := ins_of rfl (by decide +kernel)
set_option maxRecDepth 1000000 in
theorem ins385 : ∀ q ∈ I385, insP 385 q.1 = some q.2 := ins_of rfl (by decide +kernel)
set_option maxRecDepth 1000000 in
theorem ins386 : ∀ q ∈ I386, insP 386 q.1 = some q.2 := ins_of rfl (by decide +kernel)
set_option maxRecDepth 1000000 in
theorem ins387 : ∀ q ∈ I387, insP 387 q.1 = some q.2 := ins_of rfl (by decide +kernel)
set_option maxRecDepth 1000000 in
theorem ins388 : ∀ q ∈ I388, insP 388 q.1 = some q.2 := ins_of rfl (by decide +kernel)
set_option maxRecDepth 1000000 in
theorem ins389 : ∀ q ∈ I389, insP 389 q.1 = some q.2 := ins_of rfl (by decide +kernel)
set_option maxRecDepth 1000000 in
theorem ins390 : ∀ q ∈ I390, insP 390 q.1 = some q.2 := ins_of rfl (by decide +kernel)
set_option maxRecDepth 1000000 in
theorem ins391 : ∀ q ∈ I391, insP 391 q.1 = some q.2 := ins_of rfl (by decide +kernel)
set_option maxRecDepth 1000000 in
theorem ins392 : ∀ q ∈ I392, insP 392 q.1 = some q.2 := ins_of rfl (by decide +kernel)
set_option maxRecDepth 1000000 in
theorem ins393 : ∀ q ∈ I393, insP 393 q.1 = some q.2 := ins_of rfl (by decide +kernel)
set_option maxRecDepth 1000000 in
theorem ins394 : ∀ q ∈ I394, insP 394 q.1 = some q.2 := ins_of rfl (by decide +kernel)
set_option maxRecDepth 1000000 in
theorem ins395 : ∀ q ∈ I395, insP 395 q.1 = some q.2 := ins_of rfl (by decide +kernel)
set_option maxRecDepth 1000000 in
theorem ins396 : ∀ q ∈ I396, insP 396 q.1 = some q.2 := ins_of rfl (by decide +kernel)
set_option maxRecDepth 1000000 in
theorem ins397 : ∀ q ∈ I397, insP 397 q.1 = some q.2 := ins_of rfl (by decide +kernel)
set_option maxRecDepth 1000000 in
theorem ins398 : ∀ q ∈ I398, insP 398 q.1 = some q.2 := ins_of rfl (by decide +kernel)
set_option maxRecDepth 1000000 in
theorem ins399 : ∀ q ∈ I399, insP 399 q.1 = some q.2 := ins_of rfl (by decide +kernel)
set_option maxRecDepth 1000000 in
theorem ins400 : ∀ q ∈ I400, insP 400 q.1 = some q.2 := ins_of rfl (by decide +kernel)
set_option maxRecDepth 1000000 in
theorem ins401 : ∀ q ∈ I401, insP 401 q.1 = some q.2 := ins_of rfl (by decide +kernel)
set_option maxRecDepth 1000000 in
theorem ins402 : ∀ q ∈ I402, insP 402 q.1 = some q.2 := ins_of rfl (by decide +kernel)
set_option maxRecDepth 1000000 in
theorem ins403 : ∀ q ∈ I403, insP 403 q.1 = some q.2 := ins_of rfl (by decide +kernel)
set_option maxRecDepth 1000000 in
theorem ins404 : ∀ q ∈ I404, insP 404 q.1 = some q.2 := ins_of rfl (by decide +kernel)
set_option maxRecDepth 1000000 in
theorem ins405 : ∀ q ∈ I405, insP 405 q.1 = some q.2 := ins_of rfl (by decide +kernel)
set_option maxRecDepth 1000000 in
theorem ins406 : ∀ q ∈ I406, insP 406 q.1 = some q.2 := ins_of rfl (by decide +kernel)
set_option maxRecDepth 1000000 in
theorem ins407 : ∀ q ∈ I407, insP 407 q.1 = some q.2 := ins_of rfl (by decide +kernel)
set_option maxRecDepth 1000000 in
theorem ins408 : ∀ q ∈ I408, insP 408 q.1 = some q.2 := ins_of rfl (by decide +kernel)
set_option maxRecDepth 1000000 in
theorem ins409 : ∀ q ∈ I409, insP 409 q.1 = some q.2 := ins_of rfl (by decide +kernel)
set_option maxRecDepth 1000000 in
theorem ins410 : ∀ q ∈ I410, insP 410 q.1 = some q.2 := ins_of rfl (by decide +kernel)
set_option maxRecDepth 1000000 in
theorem ins411 : ∀ q ∈ I411, insP 411 q.1 = some q.2 := ins_of rfl (by decide +kernel)
set_option maxRecDepth 1000000 in
theorem ins412 : ∀ q ∈ I412, insP 412 q.1 = some q.2 := ins_of rfl (by decide +kernel)
set_option maxRecDepth 1000000 in
theorem ins413 : ∀ q ∈ I413, insP 413 q.1 = some q.2 := ins_of rfl (by decide +kernel)
set_option maxRecDepth 1000000 in
theorem ins414 : ∀ q ∈ I414, insP 414 q.1 = some q.2 := ins_of rfl (by decide +kernel)
set_option maxRecDepth 1000000 in
theorem ins415 : ∀ q ∈ I415, insP 415 q.1 = some q.2 := ins_of rfl (by decide +kernel)
set_option maxRecDepth 1000000 in
theorem ins416 : ∀ q ∈ I416, insP 416 q.1 = some q.2 := ins_of rfl (by decide +kernel)
set_option maxRecDepth 1000000 in
theorem ins417 : ∀ q ∈ I417, insP 417 q.1 = some q.2 := ins_of rfl (by decide +kernel)
set_option maxRecDepth 1000000 in
theorem ins418 : ∀ q ∈ I418, insP 418 q.1 = some q.2 := ins_of rfl (by decide +kernel)
set_option maxRecDepth 1000000 in
theorem ins419 : ∀ q ∈ I419, insP 419 q.1 = some q.2 := ins_of rfl (by decide +kernel)
set_option maxRecDepth 1000000 in
theorem ins420 : ∀ q ∈ I420, insP 420 q.1 = some q.2 := ins_of rfl (by decide +kernel)
set_option maxRecDepth 1000000 in
theorem ins421 : ∀ q ∈ I421, insP 421 q.1 = some q.2 := ins_of rfl (by decide +kernel)
set_option maxRecDepth 1000000 in
theorem ins422 : ∀ q ∈ I422, insP 422 q.1 = some q.2 := ins_of rfl (by decide +kernel)
set_option maxRecDepth 1000000 in
theorem ins423 : ∀ q ∈ I423, insP 423 q.1 = some q.2 := ins_of rfl (by decide +kernel)
set_option maxRecDepth 1000000 in
theorem ins424 : ∀ q ∈ I424, insP 424 q.1 = some q.2 := ins_of rfl (by decide +kernel)
set_option maxRecDepth 1000000 in
theorem ins425 : ∀ q ∈ I425, insP 425 q.1 = some q.2 := ins_of rfl (by decide +kernel)
set_option maxRecDepth 1000000 in
theorem ins426 : ∀ q ∈ I426, insP 426 q.1 = some q.2 := ins_of rfl (by decide +kernel)
set_option maxRecDepth 1000000 in
theorem ins427 : ∀ q ∈ I427, insP 427 q.1 = some q.2 := ins_of rfl (by decide +kernel)
set_option maxRecDepth 1000000 in
theorem ins428 : ∀ q ∈ I428, insP 428 q.1 = some q.2 := ins_of rfl (by decide +kernel)
set_option maxRecDepth 1000000 in
theorem ins429 : ∀ q ∈ I429, insP 429 q.1 = some q.2 := ins_of rfl (by decide +kernel)
set_option maxRecDepth 1000000 in
theorem ins430 : ∀ q ∈ I430, insP 430 q.1 = some q.2 := ins_of rfl (by decide +kernel)
set_option maxRecDepth 1000000 in
theorem ins438 : ∀ q ∈ I438, insP 438 q.1 = some q.2 := ins_of rfl (by decide +kernel)
set_option maxRecDepth 1000000 in
theorem ins439 : ∀ q ∈ I439, insP 439 q.1 = some q.2 := ins_of rfl (by decide +kernel)
set_option maxRecDepth 1000000 in
theorem ins441 : ∀ q ∈ I441, insP 441 q.1 = some q.2 := ins_of rfl (by decide +kernel)
