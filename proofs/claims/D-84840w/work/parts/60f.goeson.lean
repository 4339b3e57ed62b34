/-! RUNS: parts of a part are planned; what comes behind them -/
section GOESON
variable {D : pgD} {m : Nat} {rg : rgD} {cd : cdD} {T : tsD} {vd : Nat → Nat} {X X' : dyD} {E : Nat → trE} {ty ty' : Nat → trE} {i n nr L dd p : Nat} {av : Nat → Prop} {K : List (Nat × Nat × Nat)}
theorem hgw_kid {w : Nat} (hS : SPF D m rg cd T vd) {f k j : Nat} (hf : f ≤ D.fc) (h1 : D.bP f ≤ p) (h2 : p < D.bP (f + 1)) (hw : WKK w (D.K p)) (hj : j < wkN D w p) (hk : (D.kd p)[j]? = some k) : cd.hg k = cd.hg p + j ∧ D.sn p j = [] ∧ D.K p ≠ 17 := by
  have e := hS.2.1.2.1 f p j k hf h1 h2 hk
  have h17 : D.K p ≠ 17 := by rcases hw with h | h | h | h | h | h <;> omega
  have hn : w = 2 ∨ w = 3 ∨ w = 4 → j = 0 := fun h => by unfold wkN at hj; rw [if_pos h] at hj; omega
  refine ⟨?_, ?_, h17⟩
  · rw [e]
    unfold hgw
    rw [if_neg h17]
    by_cases q : D.K p = 18
    · rw [if_pos q]
      have : w = 2 := by rcases hw with h | h | h | h | h | h <;> omega
      have := hn (.inl this)
      omega
    · rw [if_neg q]
      by_cases q2 : D.K p = 20
      · rw [if_pos q2]
        have : w = 4 := by rcases hw with h | h | h | h | h | h <;> omega
        have := hn (.inr (.inr this))
        rw [if_neg (by omega)]; omega
      · rw [if_neg q2]
  · unfold pgD.sn
    rw [if_neg h17, if_neg (fun h => ?_), if_neg (fun h => ?_)]
    · have : w = 4 := by rcases hw with h' | h' | h' | h' | h' | h' <;> omega
      have := hn (.inr (.inr this))
      omega
    · have : w = 3 := by rcases hw with h' | h' | h' | h' | h' | h' <;> omega
      have := hn (.inr (.inl this))
      omega
theorem DYK.refl (hH : HOK X.hp X.no) (hno : X.no ≤ 30001) : DYK X X i nr L dd av := ⟨⟨hH, hno⟩, fun _ _ => rfl, fun _ _ _ => rfl, Nat.le_refl _, Nat.le_refl _, fun _ _ => rfl, fun _ _ => rfl, fun _ _ _ => rfl, fun _ _ => rfl, fun _ _ _ => rfl, fun _ _ => rfl⟩
theorem wkN_le {w f : Nat} (hS : SPF D m rg cd T vd) (hw : WKK w (D.K p)) (hf : f ≤ D.fc) (h1 : D.bP f ≤ p) (h2 : p < D.bP (f + 1)) : wkN D w p ≤ (D.kd p).length := by
  unfold wkN
  by_cases q : w = 2 ∨ w = 3 ∨ w = 4
  · rw [if_pos q]
    have hpf := (hS.1.2.2 _ hf).2.2.1 p h1 h2
    have h3 : D.K p ≠ 3 := by rcases hw with h | h | h | h | h | h <;> omega
    rw [hpf.2.2.1 h3]
    have hk : D.K p = 18 ∨ D.K p = 19 ∨ D.K p = 20 := by rcases hw with h | h | h | h | h | h <;> omega
    rcases hk with e | e | e <;> rw [e] <;> decide
  · rw [if_neg q]; exact Nat.le_refl _
/-- what is planned for a part: its parts, then what comes behind them -/
def plK (D : pgD) (w p j : Nat) (K : List (Nat × Nat × Nat)) : List (Nat × Nat × Nat) := (((D.kd p).take (wkN D w p)).drop j).map (fun k => (0, k, 0)) ++ ((w, p, 0) :: K)
theorem plK_end {w j : Nat} (hj : wkN D w p ≤ j) : plK D w p j K = (w, p, 0) :: K := by
  have e0 : ((D.kd p).take (wkN D w p)).drop j = [] := by
    rw [List.drop_eq_nil_iff, List.length_take]; omega
  unfold plK
  rw [e0]; rfl
theorem plK_cons {w j k : Nat} (hj : j < wkN D w p) (hk : (D.kd p)[j]? = some k) : plK D w p j K = (0, k, 0) :: plK D w p (j + 1) K := by
  have lt := (List.getElem?_eq_some_iff.mp hk).1
  have lt' : j < ((D.kd p).take (wkN D w p)).length := by rw [List.length_take]; omega
  have e : ((D.kd p).take (wkN D w p)).drop j = k :: ((D.kd p).take (wkN D w p)).drop (j + 1) := by
    rw [List.drop_eq_getElem_cons lt']
    congr 1
    rw [List.getElem_take]
    have := List.getElem?_eq_getElem lt
    rw [hk] at this
    injection this with this
    exact this.symm
  unfold plK
  rw [e]; rfl
/-- its parts are planned -/
theorem T_kids {w : Nat} (hS : SPF D m rg cd T vd) (hH : HOK X.hp X.no) (hno : X.no ≤ 30001) (hw : WKK w (D.K p)) (h : PRT D rg cd T vd X i E ty nr av n (D.sl p).length p p) (hn : n = X.bs i + cd.hg p) (hA : ∀ (n' : Nat) (ty' : Nat → trE), n < n' → (∀ k, k < n → ty' k = ty k) → ty' (n' - 1) = E (T.oC p) → TK D rg cd T vd X ((7, p, n) :: K) i E n' ty' nr av n (D.sl p).length) :
    ∀ (r j : Nat) (ty1 : Nat → trE), j + r = wkN D w p → (∀ k, k < n → ty1 k = ty k) → (∀ j' k, j' < j → (D.kd p)[j']? = some k → ty1 (n + j') = E (T.oC k)) →
      TK D rg cd T vd X (plK D w p j ((7, p, n) :: K)) i E (n + j) ty1 nr av n (D.sl p).length := by
  have hp := h
  obtain ⟨⟨a1, a2, a3, a4, a5⟩, _⟩ := h
  have hle := wkN_le hS hw a1 a2 a3
  intro r
  induction r with
  | zero =>
    intro j ty1 hj ht hty
    rw [plK_end (by omega)]
    refine .inr (.inr (.inr ⟨hw, hp.to (DYK.refl hH hno) (fun k hk => ht k (by omega)), by omega, hn.symm, ⟨K, rfl⟩, fun j' k hj' hk => ?_, fun n' ty' g1 g2 g3 => ?_⟩))
    · rw [← hn]; exact hty j' k (by omega) hk
    · rw [← hn] at g1 g2
      exact hA n' ty' g1 (fun k hk => (g2 k hk).trans (ht k hk)) g3
  | succ r ih =>
    intro j ty1 hj ht hty
    have lt : j < (D.kd p).length := by omega
    have hk : (D.kd p)[j]? = some ((D.kd p)[j]'lt) := List.getElem?_eq_getElem lt
    generalize (D.kd p)[j]'lt = k at hk
    obtain ⟨e1, e2, e3⟩ := hgw_kid hS a1 a2 a3 hw (show j < wkN D w p by omega) hk
    rw [plK_cons (by omega) hk]
    have hs := ((hS.1.2.2 _ a1).2.2.1 p a2 a3).2.2.2.2.2.1 j k hk
    rw [e2, List.nil_append] at hs
    have hkid := PRT.kid (ty' := ty1) hS hp e3 hk (fun k hk => ht k (by omega)) (fun v hv => by rw [e2] at hv; cases hv)
    rw [hs] at hkid
    refine .inl ⟨rfl, hkid, by omega, ?_⟩
    have := ih (j + 1) (uq ty1 (n + j) (E (T.oC k))) (by omega) (fun k' hk' => by rw [uq_ne (by omega)]; exact ht k' hk') (fun j' k' hj' hk' => by
      by_cases q : j' = j
      · subst q
        rw [hk] at hk'
        injection hk' with hk'
        rw [uq_self, hk']
      · rw [uq_ne (by omega)]; exact hty j' k' (by omega) hk')
    exact this
theorem TK_dd {b dd' : Nat} (h : TK D rg cd T vd X ((7, p, b) :: K) i E n ty nr av L dd) (hd : dd ≤ dd') : TK D rg cd T vd X ((7, p, b) :: K) i E n ty nr av L dd' := by
  rcases h with ⟨h0, _⟩ | ⟨h0, h1, h2, h3, h4, h5, E0, av0, nr0, L0, dd0, k1, k2, k3, k4, k5, k6, k7, k8, k9⟩ | ⟨h0, _⟩ | ⟨h0, _⟩
  · exact absurd h0 (by decide)
  · exact .inr (.inl ⟨h0, h1, h2, h3, h4, h5, E0, av0, nr0, L0, dd0, k1, k2, k3, k4, k5, k6, k7, by omega, k9⟩)
  · exact absurd h0 (by decide)
  · rcases h0 with ⟨h0, _⟩ | ⟨h0, _⟩ | ⟨h0, _⟩ | ⟨h0, _⟩ | ⟨h0, _⟩ | ⟨h0, _⟩ <;> exact absurd h0 (by decide)
/-- what comes behind a part's parts -/
theorem TK.on {w b : Nat} (h : TK D rg cd T vd X ((w, p, b) :: K) i E n ty nr av L dd) (hw : 1 ≤ w ∧ w ≤ 6) : WKK w (D.K p) ∧ PRT D rg cd T vd X i E ty nr av L dd p p ∧ n = L + wkN D w p ∧ X.bs i + cd.hg p = L ∧ (∃ K' : List (Nat × Nat × Nat), K = (7, p, L) :: K') ∧ (∀ j k, j < wkN D w p → (D.kd p)[j]? = some k → ty (L + j) = E (T.oC k)) ∧
    ∀ (n' : Nat) (ty' : Nat → trE), L < n' → (∀ k, k < L → ty' k = ty k) → ty' (n' - 1) = E (T.oC p) → TK D rg cd T vd X K i E n' ty' nr av L dd := by
  rcases h with ⟨h0, _⟩ | ⟨h0, _⟩ | ⟨h0, _⟩ | ⟨h0, h1, h2, h3, h3', h4, h5⟩
  · omega
  · omega
  · omega
  · rw [h3] at h2 h4 h5
    exact ⟨h0, h1, h2, h3, h3', h4, h5⟩
/-- the value of a part is there -/
theorem T_done {w b : Nat} (h : TK D rg cd T vd X ((w, p, b) :: K) i E n ty nr av L dd) (hw : 1 ≤ w ∧ w ≤ 6) (hd : DYK X X' i nr L dd av) : TK D rg cd T vd X' K i E (L + 1) (uq ty L (E (T.oC p))) nr av L dd := by
  obtain ⟨_, _, _, _, _, _, h5⟩ := h.on hw
  exact TK.to K i E (L + 1) _ _ nr av L dd hd (fun _ _ => rfl) (h5 (L + 1) (uq ty L (E (T.oC p))) (by omega) (fun k hk => uq_ne (by omega)) (by rw [Nat.add_sub_cancel, uq_self]))
/-- another part comes, in its place -/
theorem T_then {w b j k : Nat} (hS : SPF D m rg cd T vd) (h : TK D rg cd T vd X ((w, p, b) :: K) i E n ty nr av L dd) (hw : 1 ≤ w ∧ w ≤ 6) (h17 : D.K p ≠ 17) (hk : (D.kd p)[j]? = some k) (hty : T.oC k = T.oC p) (hd : DYK X X' i nr L dd av) (ht : ∀ e, e < L → ty' e = ty e) (hsn : ∀ v, v ∈ D.sn p j → X'.aV i (vd v) = ((X'.bs i + cd.sl v : Nat) : Int) ∧ cd.sl v < cd.hg k ∧ ty' (X'.bs i + cd.sl v) = E (T.vC v)) (hL : L ≤ X'.bs i + cd.hg k) :
    TK D rg cd T vd X' ((0, k, 0) :: K) i E (X'.bs i + cd.hg k) ty' nr av L (D.sl k).length := by
  obtain ⟨g1, g2, g3, g4, ⟨K', g5⟩, g6, g7⟩ := h.on hw
  have ef : X'.fr i = X.fr i := hd.2.2.2.2.2.2.1 i (Nat.le_refl _)
  have eb : X'.bs i = X.bs i := by unfold dyD.bs; rw [ef]
  have hp := g2.to (ty' := ty) hd (fun _ _ => rfl)
  have hkid := PRT.kid (ty' := ty') hS hp h17 hk (fun e he => ht e (by omega)) hsn
  obtain ⟨⟨a1, a2, a3, a4, a5⟩, _⟩ := g2
  have hs := ((hS.1.2.2 _ a1).2.2.1 p a2 a3).2.2.2.2.2.1 j k hk
  refine .inl ⟨rfl, hkid, rfl, ?_⟩
  have hx := TK.to K i E (X'.bs i + cd.hg k + 1) _ (uq ty' (X'.bs i + cd.hg k) (E (T.oC k))) nr av L dd hd (fun _ _ => rfl) (g7 (X'.bs i + cd.hg k + 1) (uq ty' (X'.bs i + cd.hg k) (E (T.oC k))) (by omega) (fun e he => by rw [uq_ne (by omega)]; exact ht e he) (by rw [Nat.add_sub_cancel, uq_self, hty]))
  rw [g5] at hx ⊢
  exact TK_dd hx (by rw [hs, List.length_append]; omega)
end GOESON
