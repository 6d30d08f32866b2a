/-! LAWS: what both reckon with; turnOf (own work) -/
set_option maxRecDepth 100000
theorem e_i0 {β : Type} {n : Nat} {K : Option β} (h : 0 < n) (hn : n < 2 ^ 31) : in_ 0 n K = K := e_inN (i := 0) h hn
theorem e_i1 {β : Type} {n : Nat} {K : Option β} (h : 1 < n) (hn : n < 2 ^ 31) : in_ 1 n K = K := e_inN (i := 1) h hn
theorem e_i2 {β : Type} {n : Nat} {K : Option β} (h : 2 < n) (hn : n < 2 ^ 31) : in_ 2 n K = K := e_inN (i := 2) h hn
theorem e_i3 {β : Type} {n : Nat} {K : Option β} (h : 3 < n) (hn : n < 2 ^ 31) : in_ 3 n K = K := e_inN (i := 3) h hn
theorem e_i4 {β : Type} {n : Nat} {K : Option β} (h : 4 < n) (hn : n < 2 ^ 31) : in_ 4 n K = K := e_inN (i := 4) h hn
theorem e_i5 {β : Type} {n : Nat} {K : Option β} (h : 5 < n) (hn : n < 2 ^ 31) : in_ 5 n K = K := e_inN (i := 5) h hn
theorem e_i6 {β : Type} {n : Nat} {K : Option β} (h : 6 < n) (hn : n < 2 ^ 31) : in_ 6 n K = K := e_inN (i := 6) h hn
theorem e_i7 {β : Type} {n : Nat} {K : Option β} (h : 7 < n) (hn : n < 2 ^ 31) : in_ 7 n K = K := e_inN (i := 7) h hn
def RuleP (nm : List Int32) (g : GS) (ρ : Nat → Nat) (A : Nat → Int32) (ref : Nat) (pos : Int32) : Prop :=
  (ref = 0 ∧ pos = -1) ∨ ∃ b c k, ref = b + 1 ∧ FL nm g ρ 150 b c ∧ pos = nI k ∧ CodeAt A k (c ++ [0]) ∧ k + c.length + 1 ≤ 4200 ∧ c.length ≤ 1900
theorem RuleP.to {nm : List Int32} {W : Nat → Prop} {g g' : GS} {ρ ρ' : Nat → Nat} {A : Nat → Int32} {ref : Nat} {pos : Int32} (h : RuleP nm g ρ A ref pos) (hF : Fr W g g') (hA : ∀ q, q < gz g → ρ q = 0 → ρ' q = 0) (hW : ∀ q, q < gz g → ρ q = 0 → ¬ W q) : RuleP nm g' ρ' A ref pos := by
  rcases h with h | ⟨b, c, k, h1, h2, h3⟩
  · exact Or.inl h
  · exact Or.inr ⟨b, c, k, h1, h2.to hF hA hW, h3⟩
/-- the hands' forms -/
def HdP (g : GS) (ρ : Nat → Nat) (sc h : Nat) (A12 A13 : Nat → Int32) : Prop := ∃ l xs, gR g sc 2 = l + 1 ∧ LiP g ρ 0 l xs ∧ xs.length = h ∧ ∀ i y, xs[i]? = some y → RuleP [0, 1, 2, 3, 4] g ρ A13 (y + 1) (A12 i)
/-- the scene: n moves, k changes, h hands -/
def ScP (g : GS) (ρ : Nat → Nat) (sc n k h : Nat) (σ : MS) : Prop :=
  (gK g sc = 2 ∧ ρ sc = 0 ∧ sc < gz g ∧ gI g sc 5 = m_I σ 1 ∧ gI g sc 6 = sm_ (m_A σ 9) n) ∧ ((m_I σ 2 = nI n ∧ n ≤ 12) ∧ (m_I σ 3 = nI k ∧ k ≤ 6) ∧ (m_I σ 5 = nI h ∧ h ≤ 4)) ∧
  (PlP g ρ 0 sc 0 n (m_A σ 8) (m_A σ 9) ∧ PlP g ρ 0 sc 1 k (m_A σ 10) (m_A σ 11) ∧ HdP g ρ sc h (m_A σ 12) (m_A σ 13)) ∧ (RuleP [5] g ρ (m_A σ 13) (gR g sc 3) (m_I σ 6) ∧ RuleP [6, 7, 5] g ρ (m_A σ 13) (gR g sc 4) (m_I σ 7)) ∧
  (mvN (m_A σ 8) (m_A σ 9) n ∧ chN (m_A σ 10) (m_A σ 11) k ∧ (12 ≤ (m_I σ 1).toInt ∧ (m_I σ 1).toInt ≤ 480) ∧ (sm_ (m_A σ 9) n).toInt ≤ 600)
theorem HdP.to {W : Nat → Prop} {g g' : GS} {ρ ρ' : Nat → Nat} {sc h : Nat} {A12 A13 : Nat → Int32} (hp : HdP g ρ sc h A12 A13) (hs : sc < gz g) (hsW : ¬ W sc) (hF : Fr W g g') (hA : ∀ q, q < gz g → ρ q = 0 → ρ' q = 0) (hW : ∀ q, q < gz g → ρ q = 0 → ¬ W q) : HdP g' ρ' sc h A12 A13 := by
  obtain ⟨l, xs, h1, h2, h3, h4⟩ := hp
  exact ⟨l, xs, by rw [hF.R hs hsW, h1], h2.to' hF (fun q hq k => by rw [hA q hq (k.elim id id), k.elim id id]) (fun q hq k => hW q hq (k.elim id id)), h3, fun i y hy => (h4 i y hy).to hF hA hW⟩
theorem ScP.to {W : Nat → Prop} {LI LA : List Nat} {g g' : GS} {ρ ρ' : Nat → Nat} {sc n k h : Nat} {σ σ' : MS} (hp : ScP g ρ sc n k h σ) (hF : Fr W g g') (hA : ∀ q, q < gz g → ρ q = 0 → ρ' q = 0) (hW : ∀ q, q < gz g → ρ q = 0 → ¬ W q) (hM : Mf LI LA σ σ') (h1 : 1 ∉ LI ∧ 2 ∉ LI ∧ 3 ∉ LI ∧ 5 ∉ LI ∧ 6 ∉ LI ∧ 7 ∉ LI) (h2 : 8 ∉ LA ∧ 9 ∉ LA ∧ 10 ∉ LA ∧ 11 ∉ LA ∧ 12 ∉ LA ∧ 13 ∉ LA) : ScP g' ρ' sc n k h σ' := by
  obtain ⟨⟨a1, a2, a3, a4, a5⟩, ⟨⟨b1, b2⟩, ⟨b3, b4⟩, b5, b6⟩, ⟨c1, c2, c3⟩, ⟨d1, d2⟩, e1, e2, e3, e4⟩ := hp
  obtain ⟨i1, i2, i3, i5, i6, i7⟩ := h1
  obtain ⟨j8, j9, j10, j11, j12, j13⟩ := h2
  have hsc := hW sc a3 a2
  have hA' : ∀ q, q < gz g → ρ q = 0 ∨ ρ q = 0 → ρ' q = ρ q := fun q hq k => by rw [hA q hq (k.elim id id), k.elim id id]
  have pl : ∀ {fld m : Nat} {f f' : Nat → Int32}, PlP g ρ 0 sc fld m f f' → PlP g' ρ' 0 sc fld m f f' := by
    intro fld m f f' hp
    obtain ⟨l, xs, p1, p2, p3, p4⟩ := hp
    refine ⟨l, xs, by rw [hF.R a3 hsc, p1], p2.to' hF hA' (fun q hq k => hW q hq (k.elim id id)), p3, fun i y hy => ?_⟩
    obtain ⟨q1, q2, q3, q4, q5, q6⟩ := p4 i y hy
    have hy' := hW y q6 q3
    exact ⟨by rw [hF.K q6, q1], by rw [hF.N q6, q2], hA y q6 q3, by rw [hF.I q6 hy', q4], by rw [hF.I q6 hy', q5], hF.lt q6⟩
  refine ⟨⟨by rw [hF.K a3, a1], hA sc a3 a2, hF.lt a3, by rw [hF.I a3 hsc, a4, hM.I i1], by rw [hF.I a3 hsc, a5, hM.Af j9]⟩, ⟨⟨by rw [hM.I i2, b1], b2⟩, ⟨by rw [hM.I i3, b3], b4⟩, by rw [hM.I i5, b5], b6⟩, ⟨?_, ?_, ?_⟩, ⟨?_, ?_⟩, ?_, ?_, ?_, ?_⟩
  · rw [hM.Af j8, hM.Af j9]; exact pl c1
  · rw [hM.Af j10, hM.Af j11]; exact pl c2
  · rw [hM.Af j12, hM.Af j13]; exact c3.to a3 hsc hF hA hW
  · rw [hM.Af j13, hM.I i6, hF.R a3 hsc]; exact d1.to hF hA hW
  · rw [hM.Af j13, hM.I i7, hF.R a3 hsc]; exact d2.to hF hA hW
  · rw [hM.Af j8, hM.Af j9]; exact e1
  · rw [hM.Af j10, hM.Af j11]; exact e2
  · rw [hM.I i1]; exact e3
  · rw [hM.Af j9]; exact e4
/-- what both reckon with: the object a, its scene sc, its values v -/
def CW (g : GS) (ρ : Nat → Nat) (a sc v n k h : Nat) (σ : MS) : Prop :=
  (gK g a = 1 ∧ ρ a = 1 ∧ a < gz g ∧ gR g a 0 = sc + 1 ∧ gR g a 2 = v + 1) ∧ (gK g v = 100 ∧ gN g v = 5 ∧ ρ v = 6 ∧ v < gz g) ∧ (∃ d, gS g 5 = d + 1) ∧ ScP g ρ sc n k h σ
theorem CW.to {W : Nat → Prop} {LI LA : List Nat} {g g' : GS} {ρ ρ' : Nat → Nat} {a sc v n k h : Nat} {σ σ' : MS} (hp : CW g ρ a sc v n k h σ) (hF : Fr W g g') (hA : Ag g ρ ρ') (hW : ∀ q, q < gz g → ρ q = 0 → ¬ W q) (ha : gR g' a 0 = gR g a 0 ∧ gR g' a 2 = gR g a 2) (hM : Mf LI LA σ σ') (h1 : 1 ∉ LI ∧ 2 ∉ LI ∧ 3 ∉ LI ∧ 5 ∉ LI ∧ 6 ∉ LI ∧ 7 ∉ LI) (h2 : 8 ∉ LA ∧ 9 ∉ LA ∧ 10 ∉ LA ∧ 11 ∉ LA ∧ 12 ∉ LA ∧ 13 ∉ LA) : CW g' ρ' a sc v n k h σ' := by
  obtain ⟨⟨a1, a2, a3, a4, a5⟩, ⟨b1, b2, b3, b4⟩, ⟨d, hd⟩, hs⟩ := hp
  exact ⟨⟨by rw [hF.K a3, a1], by rw [hA a a3, a2], hF.lt a3, by rw [ha.1, a4], by rw [ha.2, a5]⟩, ⟨by rw [hF.K b4, b1], by rw [hF.N b4, b2], by rw [hA v b4, b3], hF.lt b4⟩, ⟨d, by rw [hF.S, hd]⟩, hs.to hF (fun q hq k => by rw [hA q hq, k]) hW hM h1 h2⟩
/-- a whole code reckoned -/
theorem reck_l {T : Nat → Int32} {c : List Int32} {r : Int32} (h : EvM T c r) {σ : MS} {k : Nat} (hC : CodeAt (m_A σ 13) k (c ++ [0])) (hk : k + c.length + 1 ≤ 4200) (hc : c.length ≤ 1900) (hT : ∀ u, u < 8 → m_A σ 57 u = T u) : ∃ σ', X4_reckons (nI k) σ = some (r, σ') ∧ Mf [] [58] σ σ' := by
  obtain ⟨i, σ1, a1, a2, a3, a4, -⟩ := h σ k 0 hC.left (by omega) (by omega) hT
  refine ⟨σ1, ?_, a3⟩
  have hend : rk_b (nI 1, nI (k + c.length), σ1) = some (.inr σ1) := by
    show X4_reckons_b4 (nI 1) (nI (k + c.length)) σ1 = _
    unfold X4_reckons_b4
    rw [e_inN (by omega) (by omega), nI_clamp (by omega), a3.A (by decide), hC.right.one, if_pos rfl]
  obtain ⟨f, hf⟩ : ∃ f, fu_ = (f + 1) + i := ⟨fu_ - 1 - i, by unfold fu_; omega⟩
  have hrun : lp_ rk_b fu_ (nI 0, nI k, σ) = some σ1 := by
    rw [hf, a2 (f + 1)]
    exact lp_end hend f
  unfold X4_reckons
  have hrun' : lp_ (fun a : Int32 × Int32 × MS => X4_reckons_b4 a.1 a.2.1 a.2.2) fu_ (0, nI k, σ) = some σ1 := hrun
  rw [hrun', e_ob, e_in (by decide), cl_0, a4]
theorem turn_l {g : GS} {ρ : Nat → Nat} {a sc v n k h : Nat} {σ : MS} (hC : CW g ρ a sc v n k h σ) {x : Int32} (hx : 12 ≤ x.toInt ∧ x.toInt ≤ 480) :
    ∃ r g' σ', X1_turnOf a x g = some (r, g') ∧ X4_turnOf x σ = some (r, σ') ∧ Fr (fun q => q = v) g g' ∧ gz g' = gz g ∧ Mf [] [57, 58] σ σ' ∧ 0 ≤ r.toInt ∧ r.toInt ≤ 999 := by
  obtain ⟨⟨a1, a2, a3, a4, a5⟩, ⟨b1, b2, b3, b4⟩, hS, ⟨⟨s1, s2, s3, s4, s5⟩, -, -, ⟨d1, -⟩, -⟩⟩ := hC
  have hva : v ≠ a := by intro q; rw [q, a1] at b1; omega
  have hvs : v ≠ sc := by intro q; rw [q, s1] at b1; omega
  have hx0 : ¬ x = 0 := by intro q; rw [q, k_0] at hx; omega
  rcases d1 with ⟨e1, e2⟩ | ⟨b, c, kk, e1, e2, e3, e4, e5, e6⟩
  · refine ⟨4320 / x, g, σ, ?_, ?_, Fr.rf, rfl, Mf.rf, ?_⟩
    · unfold X1_turnOf
      rw [e_wk a1, a4, e_nn, e_wk s1, if_pos e1, e_dv hx0]
    · unfold X4_turnOf
      rw [if_pos e2, e_dv hx0]
    · have hne : x ≠ -1 := by intro q; rw [q, k_n1] at hx; omega
      rw [i_div hne, k_4320, Int.tdiv_eq_ediv_of_nonneg (by omega)]
      have h1 : (4320 : Int) / x.toInt ≤ 4320 / 12 := Int.ediv_le_of_le_mul (by omega) (by omega)
      have h2 : 0 ≤ (4320 : Int) / x.toInt := Int.ediv_nonneg (by omega) (by omega)
      omega
  · have hV : FL [5] (pI g v 0 x) ρ ff_ b c := (e2.le (by decide)).to (W := fun q => q = v) (Fr.pI rfl) (fun _ _ k => k) (fun q hq k k' => by rw [k', b3] at k; omega)
    obtain ⟨r, f1, f2⟩ := ev_l (g := pI g v 0 x) (v := v) (T := m_A (s_A σ 57 5 x) 57) hS (by rw [K_pI, b1]) (by rw [N_pI, b2]; exact ⟨by decide, by omega⟩) (fun w y hy => by
      match w, hy with
      | 0, hy =>
        cases hy
        refine ⟨5, by omega, rfl, ?_⟩
        rw [I_pI, if_pos ⟨rfl, rfl⟩, rA_sA, if_pos ⟨rfl, rfl⟩]
      | w + 1, hy => cases hy) ff_ b c hV
    obtain ⟨σ1, h1, h2⟩ := reck_l f2 (σ := s_A σ 57 5 x) (k := kk) e4 e5 e6 (fun _ _ => rfl)
    have hb := bd_rg (v := r) (a := 0) (b := 999) (by decide)
    rw [k_0, k_999] at hb
    refine ⟨bd_ r 0 999, pI g v 0 x, σ1, ?_, ?_, Fr.pI rfl, rfl, (Mf.sA (by decide)).trans h2 (fun _ k => k) (fun k hk => List.mem_cons_of_mem _ hk), hb⟩
    · unfold X1_turnOf
      rw [e_wk a1, a4, e_nn, e_wk s1, if_neg (by omega), a5, e_nn, e_wk b1, e_in (by rw [b2]; decide), cl_0, R_pI, a4, e_nn, e_wk (by exact s1), e1, e_nn, a5, e_nn, f1, e_ob, X1_kept_l (by decide), e_ob]
    · unfold X4_turnOf
      rw [e3, if_neg, e_in (by decide), cl_5, h1, e_cb, X4_bounded_l, e_ob]
      rw [i_eq, i_n (by omega), k_n1]
      omega
