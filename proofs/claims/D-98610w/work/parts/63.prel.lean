/-! LAWS: the relation of the two objects (own work) -/
set_option maxRecDepth 100000
/-- the settings in force -/
def NowP (g : GS) (ρ : Nat → Nat) (a x m h : Nat) (σ : MS) : Prop := gR g a 1 = x + 1 ∧ SetP g ρ 2 x m (m_A σ 53) ∧ (m_I σ 4 = nI m ∧ m ≤ 6) ∧ RowOK (m_A σ 53) m h
def ZeP (σ : MS) : Prop := m_I σ 59 = 0 ∧ m_I σ 60 = 0 ∧ m_I σ 64 = 0
def TapP (g : GS) (ρ : Nat → Nat) (a : Nat) (σ : MS) : Prop :=
  (∃ tp, gR g a 3 = tp + 1 ∧ gK g tp = 101 ∧ gN g tp = 700 ∧ ρ tp = 7 ∧ tp < gz g ∧ ∀ i, i < 700 → gI g tp i = (m_A σ 14 i).toInt8.toInt32 ∧ 0 ≤ (m_A σ 14 i).toInt ∧ (m_A σ 14 i).toInt ≤ 255) ∧ (∃ t, t ≤ 700 ∧ gI g a 4 = nI t ∧ m_I σ 15 = nI t) ∧ gI g a 5 = m_I σ 17
def RefP (g : GS) (ρ : Nat → Nat) (a : Nat) (σ : MS) : Prop := ∃ rf, gR g a 6 = rf + 1 ∧ gK g rf = 100 ∧ gN g rf = 3 ∧ ρ rf = 8 ∧ rf < gz g ∧ ∀ i, i < 3 → gI g rf i = m_A σ 18 i
/-- acts: the settings before each; A tells which place was set, and what stood there -/
def AcR (g : GS) (ρ : Nat → Nat) (xs : List Nat) (m h : Nat) (row A : Nat → Int32) : Prop :=
  ∃ S : Nat → Nat → Int32, (∀ i, i < 6 + m → S xs.length i = row i) ∧ ∀ j y, xs[j]? = some y → SetP g ρ 0 y m (S j) ∧ RowOK (S j) m h ∧ ∃ q, q < 6 + m ∧ A (2 * j) = nI q ∧ ∀ i, i < 6 + m → S j i = if i = q then A (2 * j + 1) else S (j + 1) i
/-- a list of acts behind the field fld -/
def AcP (g : GS) (ρ : Nat → Nat) (r a fld m h : Nat) (row A : Nat → Int32) (cnt : Int32) : Prop := ∃ l xs, gR g a fld = l + 1 ∧ LiP g ρ r l xs ∧ cnt = nI xs.length ∧ xs.length ≤ 40 ∧ AcR g ρ xs m h row A
def FilN (A : Nat → Int32) (nf T : Nat) : Prop := nf ≤ 8 ∧ ∀ k, k < nf → (0 ≤ (A (2 * k)).toInt ∧ (A (2 * k)).toInt ≤ T) ∧ (A (2 * k + 1) = 0 ∨ A (2 * k + 1) = 1)
def FilP (g : GS) (ρ : Nat → Nat) (r a fld T : Nat) (A : Nat → Int32) (cnt : Int32) : Prop := ∃ nf, PlP g ρ r a fld nf (fun k => A (2 * k)) (fun k => A (2 * k + 1)) ∧ cnt = nI nf ∧ FilN A nf T
def BooP (g : GS) (ρ : Nat → Nat) (r a fld : Nat) (A : Nat → Int32) (cnt : Int32) : Prop := ∃ l ys, gR g a fld = l + 1 ∧ LiP g ρ r l ys ∧ cnt = nI ys.length ∧ ys.length ≤ 16 ∧ IP g ρ ys A ∧ ∀ i, i < ys.length → 12 ≤ (A i).toInt ∧ (A i).toInt ≤ 480
def KepP (g : GS) (ρ : Nat → Nat) (a : Nat) (σ : MS) : Prop := (gR g a 10 = 0 ∧ m_I σ 68 = -1) ∨ ∃ l ys, gR g a 10 = l + 1 ∧ LiP g ρ 0 l ys ∧ m_I σ 68 = nI ys.length ∧ ys.length ≤ 3 ∧ IP g ρ ys (m_A σ 70)
def ImgP (g : GS) (ρ : Nat → Nat) (a m h T : Nat) (σ : MS) : Prop := (gR g a 11 = 0 ∧ m_I σ 78 = 0) ∨ (m_I σ 78 = 1 ∧ (∃ x, gR g a 11 = x + 1 ∧ SetP g ρ 0 x m (m_A σ 82)) ∧ RowOK (m_A σ 82) m h ∧ AcP g ρ 0 a 12 m h (m_A σ 82) (m_A σ 83) (m_I σ 79) ∧ FilP g ρ 0 a 13 T (m_A σ 84) (m_I σ 80) ∧ BooP g ρ 0 a 14 (m_A σ 85) (m_I σ 81))
/-- a text: its bytes -/
def LitP (g : GS) (ρ : Nat → Nat) (q : Nat) (cs : List Nat) : Prop := gK g q = 1200 ∧ ρ q = 0 ∧ q < gz g ∧ gI g q 1 = 0 ∧ ∃ b, gR g q 0 = b + 1 ∧ gK g b = 1101 ∧ ρ b = 0 ∧ b < gz g ∧ gN g b = cs.length ∧ ∀ i c, cs[i]? = some c → gI g b i = nI c
def lits_ : List (List Nat) := [[98, 101, 104, 105, 110, 100], [104, 111, 108, 101], [108, 97, 103], [119, 114, 105, 115, 116], [101, 121, 101], [114, 105, 110, 103], [115, 104, 111, 119, 115], [105, 110, 99, 104], [111, 102, 102], [115, 101, 101, 110], [119, 97, 115], [116, 101, 110, 116, 104], [109, 97, 114, 107], [59, 40, 41, 43, 45, 42, 47, 60, 61], [110, 111, 116], [97, 110, 100], [111, 114], [103, 111], [115, 116, 97, 121], [104, 105, 109], [104, 101, 114], [104, 97, 110, 100], [102, 114, 111, 109]]
def EnvP (g : GS) (ρ : Nat → Nat) : Prop := EnE g ρ ∧ EnC g ρ ∧ (∃ d, gS g 3 = d + 1) ∧ (∃ d, gS g 4 = d + 1) ∧ (∃ d, gS g 5 = d + 1) ∧ ∀ i cs, lits_[i]? = some cs → LitP g ρ (gS g (10 + i)) cs
def OutP (g : GS) (ρ : Nat → Nat) (o : Nat) : Prop := gK g o = 106 ∧ gN g o = 1 ∧ ρ o = 50 ∧ o < gz g
def RelP (a o sc v n k h x m T : Nat) (g : GS) (ρ : Nat → Nat) (σ : MS) : Prop :=
  (CW g ρ a sc v n k h σ ∧ sm_ (m_A σ 9) n = nI T ∧ T ≤ 600) ∧ NowP g ρ a x m h σ ∧ ZeP σ ∧ TapP g ρ a σ ∧ RefP g ρ a σ ∧ AcP g ρ 3 a 7 m h (m_A σ 53) (m_A σ 55) (m_I σ 56) ∧ FilP g ρ 4 a 8 T (m_A σ 75) (m_I σ 74) ∧ BooP g ρ 5 a 9 (m_A σ 77) (m_I σ 76) ∧ KepP g ρ a σ ∧ ImgP g ρ a m h T σ ∧ EnvP g ρ ∧ OutP g ρ o
def Rel (a o : Nat) (g : GS) (σ : MS) : Prop := ∃ ρ sc v n k h x m T, RelP a o sc v n k h x m T g ρ σ
/-! each stays -/
theorem NowP.to {W : Nat → Prop} {g g' : GS} {ρ ρ' : Nat → Nat} {a x m h : Nat} {σ σ' : MS} (hp : NowP g ρ a x m h σ) (hF : Fr W g g') (hA : Ag g ρ ρ') (hW : ∀ q, q < gz g → ρ q = 2 ∨ ρ q = 0 → ¬ W q) (ha : gR g' a 1 = gR g a 1) (e4 : m_I σ' 4 = m_I σ 4) (e53 : m_A σ' 53 = m_A σ 53) : NowP g' ρ' a x m h σ' := by
  obtain ⟨h1, h2, h3, h4⟩ := hp
  exact ⟨by rw [ha, h1], by rw [e53]; exact h2.to hF hA hW, by rw [e4]; exact h3, by rw [e53]; exact h4⟩
theorem TapP.to {W : Nat → Prop} {g g' : GS} {ρ ρ' : Nat → Nat} {a : Nat} {σ σ' : MS} (hp : TapP g ρ a σ) (hF : Fr W g g') (hA : Ag g ρ ρ') (hW : ∀ q, q < gz g → ρ q = 7 → ¬ W q) (h3 : gR g' a 3 = gR g a 3) (h4 : gI g' a 4 = gI g a 4) (h5 : gI g' a 5 = gI g a 5) (e15 : m_I σ' 15 = m_I σ 15) (e17 : m_I σ' 17 = m_I σ 17) (e14 : m_A σ' 14 = m_A σ 14) : TapP g' ρ' a σ' := by
  obtain ⟨⟨tp, a1, a2, a3, a4, a5, a6⟩, ⟨t, b1, b2, b3⟩, c⟩ := hp
  refine ⟨⟨tp, by rw [h3, a1], by rw [hF.K a5, a2], by rw [hF.N a5, a3], by rw [hA tp a5, a4], hF.lt a5, fun i hi => ?_⟩, ⟨t, b1, by rw [h4, b2], by rw [e15, b3]⟩, by rw [h5, e17, c]⟩
  rw [hF.I a5 (hW tp a5 a4), e14]
  exact a6 i hi
theorem RefP.to {W : Nat → Prop} {g g' : GS} {ρ ρ' : Nat → Nat} {a : Nat} {σ σ' : MS} (hp : RefP g ρ a σ) (hF : Fr W g g') (hA : Ag g ρ ρ') (hW : ∀ q, q < gz g → ρ q = 8 → ¬ W q) (h6 : gR g' a 6 = gR g a 6) (e18 : m_A σ' 18 = m_A σ 18) : RefP g' ρ' a σ' := by
  obtain ⟨rf, a1, a2, a3, a4, a5, a6⟩ := hp
  exact ⟨rf, by rw [h6, a1], by rw [hF.K a5, a2], by rw [hF.N a5, a3], by rw [hA rf a5, a4], hF.lt a5, fun i hi => by rw [hF.I a5 (hW rf a5 a4), e18]; exact a6 i hi⟩
theorem AcR.to {W : Nat → Prop} {g g' : GS} {ρ ρ' : Nat → Nat} {xs : List Nat} {m h : Nat} {row A : Nat → Int32} (hp : AcR g ρ xs m h row A) (hF : Fr W g g') (hA : Ag g ρ ρ') (hW : ∀ q, q < gz g → ρ q = 0 → ¬ W q) : AcR g' ρ' xs m h row A := by
  obtain ⟨S, h1, h2⟩ := hp
  refine ⟨S, h1, fun j y hy => ?_⟩
  obtain ⟨b1, b2, b3⟩ := h2 j y hy
  exact ⟨b1.to hF hA (fun q hq k => hW q hq (k.elim id id)), b2, b3⟩
theorem AcP.to {W : Nat → Prop} {g g' : GS} {ρ ρ' : Nat → Nat} {r a fld m h : Nat} {row A : Nat → Int32} {cnt : Int32} (hp : AcP g ρ r a fld m h row A cnt) (hF : Fr W g g') (hA : Ag g ρ ρ') (hW : ∀ q, q < gz g → ρ q = r ∨ ρ q = 0 → ¬ W q) (ha : gR g' a fld = gR g a fld) : AcP g' ρ' r a fld m h row A cnt := by
  obtain ⟨l, xs, h1, h2, h3, h4, h5⟩ := hp
  exact ⟨l, xs, by rw [ha, h1], h2.to hF hA hW, h3, h4, h5.to hF hA (fun q hq k => hW q hq (Or.inr k))⟩
theorem FilP.to {W : Nat → Prop} {g g' : GS} {ρ ρ' : Nat → Nat} {r a fld T : Nat} {A : Nat → Int32} {cnt : Int32} (hp : FilP g ρ r a fld T A cnt) (hF : Fr W g g') (hA : Ag g ρ ρ') (hW : ∀ q, q < gz g → ρ q = r ∨ ρ q = 0 → ¬ W q) (ha : gR g' a fld = gR g a fld) : FilP g' ρ' r a fld T A cnt := by
  obtain ⟨nf, ⟨l, xs, h1, h2, h3, h4⟩, h5⟩ := hp
  exact ⟨nf, ⟨l, xs, by rw [ha, h1], h2.to hF hA hW, h3, h4.to hF hA (fun q hq k => hW q hq (Or.inr k))⟩, h5⟩
theorem BooP.to {W : Nat → Prop} {g g' : GS} {ρ ρ' : Nat → Nat} {r a fld : Nat} {A : Nat → Int32} {cnt : Int32} (hp : BooP g ρ r a fld A cnt) (hF : Fr W g g') (hA : Ag g ρ ρ') (hW : ∀ q, q < gz g → ρ q = r ∨ ρ q = 0 → ¬ W q) (ha : gR g' a fld = gR g a fld) : BooP g' ρ' r a fld A cnt := by
  obtain ⟨l, ys, h1, h2, h3, h4, h5, h6⟩ := hp
  exact ⟨l, ys, by rw [ha, h1], h2.to hF hA hW, h3, h4, h5.to hF hA (fun q hq k => hW q hq (Or.inr k)), h6⟩
theorem KepP.to {W : Nat → Prop} {g g' : GS} {ρ ρ' : Nat → Nat} {a : Nat} {σ σ' : MS} (hp : KepP g ρ a σ) (hF : Fr W g g') (hA : Ag g ρ ρ') (hW : ∀ q, q < gz g → ρ q = 0 → ¬ W q) (ha : gR g' a 10 = gR g a 10) (e68 : m_I σ' 68 = m_I σ 68) (e70 : m_A σ' 70 = m_A σ 70) : KepP g' ρ' a σ' := by
  rcases hp with ⟨h1, h2⟩ | ⟨l, ys, h1, h2, h3, h4, h5⟩
  · exact Or.inl ⟨by rw [ha, h1], by rw [e68, h2]⟩
  · exact Or.inr ⟨l, ys, by rw [ha, h1], h2.to hF hA (fun q hq k => hW q hq (k.elim id id)), by rw [e68, h3], h4, by rw [e70]; exact h5.to hF hA hW⟩
theorem ImgP.to {W : Nat → Prop} {g g' : GS} {ρ ρ' : Nat → Nat} {a m h T : Nat} {σ σ' : MS} (hp : ImgP g ρ a m h T σ) (hF : Fr W g g') (hA : Ag g ρ ρ') (hW : ∀ q, q < gz g → ρ q = 0 → ¬ W q) (ha : gR g' a 11 = gR g a 11 ∧ gR g' a 12 = gR g a 12 ∧ gR g' a 13 = gR g a 13 ∧ gR g' a 14 = gR g a 14) (eI : m_I σ' 78 = m_I σ 78 ∧ m_I σ' 79 = m_I σ 79 ∧ m_I σ' 80 = m_I σ 80 ∧ m_I σ' 81 = m_I σ 81) (eA : m_A σ' 82 = m_A σ 82 ∧ m_A σ' 83 = m_A σ 83 ∧ m_A σ' 84 = m_A σ 84 ∧ m_A σ' 85 = m_A σ 85) : ImgP g' ρ' a m h T σ' := by
  obtain ⟨a1, a2, a3, a4⟩ := ha
  obtain ⟨b1, b2, b3, b4⟩ := eI
  obtain ⟨c1, c2, c3, c4⟩ := eA
  have hW' : ∀ q, q < gz g → ρ q = 0 ∨ ρ q = 0 → ¬ W q := fun q hq k => hW q hq (k.elim id id)
  rcases hp with ⟨h1, h2⟩ | ⟨h1, ⟨x, h2, h3⟩, h4, h5, h6, h7⟩
  · exact Or.inl ⟨by rw [a1, h1], by rw [b1, h2]⟩
  · refine Or.inr ⟨by rw [b1, h1], ⟨x, by rw [a1, h2], ?_⟩, ?_, ?_, ?_, ?_⟩
    · rw [c1]; exact h3.to hF hA hW'
    · rw [c1]; exact h4
    · rw [c1, c2, b2]; exact h5.to hF hA hW' a2
    · rw [c3, b3]; exact h6.to hF hA hW' a3
    · rw [c4, b4]; exact h7.to hF hA hW' a4
theorem LitP.to {W : Nat → Prop} {g g' : GS} {ρ ρ' : Nat → Nat} {q : Nat} {cs : List Nat} (hp : LitP g ρ q cs) (hF : Fr W g g') (hA : Ag g ρ ρ') (hW : ∀ q, q < gz g → ρ q = 0 → ¬ W q) : LitP g' ρ' q cs := by
  obtain ⟨h1, h2, h3, h4, b, h5, h6, h7, h8, h9, h10⟩ := hp
  have k1 := hW q h3 h2
  have k2 := hW b h8 h7
  exact ⟨by rw [hF.K h3, h1], by rw [hA q h3, h2], hF.lt h3, by rw [hF.I h3 k1, h4], b, by rw [hF.R h3 k1, h5], by rw [hF.K h8, h6], by rw [hA b h8, h7], hF.lt h8, by rw [hF.N h8, h9], fun i c hc => by rw [hF.I h8 k2]; exact h10 i c hc⟩
theorem EnvP.to {W : Nat → Prop} {g g' : GS} {ρ ρ' : Nat → Nat} (hp : EnvP g ρ) (hF : Fr W g g') (hA : Ag g ρ ρ') (hW : ∀ q, q < gz g → ρ q = 0 → ¬ W q) : EnvP g' ρ' := by
  obtain ⟨h1, h2, h3, h4, h5, h6⟩ := hp
  refine ⟨h1.to hF hA, h2.to hF hA hW, by rw [hF.S]; exact h3, by rw [hF.S]; exact h4, by rw [hF.S]; exact h5, fun i cs hc => ?_⟩
  rw [hF.S]
  exact (h6 i cs hc).to hF hA hW
theorem OutP.to {W : Nat → Prop} {g g' : GS} {ρ ρ' : Nat → Nat} {o : Nat} (hp : OutP g ρ o) (hF : Fr W g g') (hA : Ag g ρ ρ') : OutP g' ρ' o := by
  obtain ⟨h1, h2, h3, h4⟩ := hp
  exact ⟨by rw [hF.K h4, h1], by rw [hF.N h4, h2], by rw [hA o h4, h3], hF.lt h4⟩
def relI : List Nat := [1, 2, 3, 4, 5, 6, 7, 15, 17, 56, 59, 60, 64, 68, 74, 76, 78, 79, 80, 81]
def relA : List Nat := [8, 9, 10, 11, 12, 13, 14, 18, 53, 55, 70, 75, 77, 82, 83, 84, 85]
/-- what a question leaves: nothing that counts has changed -/
def MEq (σ σ' : MS) : Prop := (∀ k, k ∈ relI → m_I σ' k = m_I σ k) ∧ ∀ j, j ∈ relA → m_A σ' j = m_A σ j
theorem MEq.rf {σ : MS} : MEq σ σ := ⟨fun _ _ => rfl, fun _ _ => rfl⟩
theorem MEq.trans {σ σ1 σ2 : MS} (h1 : MEq σ σ1) (h2 : MEq σ1 σ2) : MEq σ σ2 := ⟨fun k hk => (h2.1 k hk).trans (h1.1 k hk), fun j hj => (h2.2 j hj).trans (h1.2 j hj)⟩
theorem Mf.eq {LI LA : List Nat} {σ σ' : MS} (h : Mf LI LA σ σ') (hI : ∀ k, k ∈ relI → k ∉ LI) (hA : ∀ j, j ∈ relA → j ∉ LA) : MEq σ σ' := ⟨fun k hk => h.I (hI k hk), fun j hj => h.Af (hA j hj)⟩
/-- roles that a question writes: values, and what is of that call alone -/
def qW (r : Nat) : Prop := r = 6 ∨ 9 ≤ r
theorem RelP.to {W : Nat → Prop} {a o sc v n k h x m T : Nat} {g g' : GS} {ρ ρ' : Nat → Nat} {σ σ' : MS} (hp : RelP a o sc v n k h x m T g ρ σ) (hF : Fr W g g') (hA : Ag g ρ ρ') (hW : ∀ q, q < gz g → W q → q = a ∨ qW (ρ q)) (hR : ∀ i, gR g' a i = gR g a i) (hI : ∀ i, i ≠ 15 → gI g' a i = gI g a i) (hM : MEq σ σ') : RelP a o sc v n k h x m T g' ρ' σ' := by
  obtain ⟨⟨h1, h2, h3⟩, h4, h5, h6, h7, h8, h9, h10, h11, h12, h13, h14⟩ := hp
  obtain ⟨mI, mA⟩ := hM
  have hra : ρ a = 1 := h1.1.2.1
  have hN : ∀ r, r ≠ 1 → ¬ qW r → ∀ q, q < gz g → ρ q = r → ¬ W q := by
    intro r r1 r2 q hq k kw
    rcases hW q hq kw with e | e
    · rw [e, hra] at k; exact r1 k.symm
    · rw [k] at e; exact r2 e
  have q0 : ¬ qW 0 := by unfold qW; omega
  have q2 : ¬ qW 2 := by unfold qW; omega
  have q3 : ¬ qW 3 := by unfold qW; omega
  have q4 : ¬ qW 4 := by unfold qW; omega
  have q5 : ¬ qW 5 := by unfold qW; omega
  have q7 : ¬ qW 7 := by unfold qW; omega
  have q8 : ¬ qW 8 := by unfold qW; omega
  have n0 := hN 0 (by omega) q0
  have two : ∀ r, r ≠ 1 → ¬ qW r → ∀ q, q < gz g → ρ q = r ∨ ρ q = 0 → ¬ W q := fun r r1 r2 q hq k => k.elim (hN r r1 r2 q hq) (n0 q hq)
  refine ⟨⟨?_, by rw [mA 9 (by decide)]; exact h2, h3⟩, h4.to hF hA (two 2 (by omega) q2) (hR 1) (mI 4 (by decide)) (mA 53 (by decide)), ?_, h6.to hF hA (hN 7 (by omega) q7) (hR 3) (hI 4 (by decide)) (hI 5 (by decide)) (mI 15 (by decide)) (mI 17 (by decide)) (mA 14 (by decide)), h7.to hF hA (hN 8 (by omega) q8) (hR 6) (mA 18 (by decide)), ?_, ?_, ?_, h11.to hF hA n0 (hR 10) (mI 68 (by decide)) (mA 70 (by decide)), h12.to hF hA n0 ⟨hR 11, hR 12, hR 13, hR 14⟩ ⟨mI 78 (by decide), mI 79 (by decide), mI 80 (by decide), mI 81 (by decide)⟩ ⟨mA 82 (by decide), mA 83 (by decide), mA 84 (by decide), mA 85 (by decide)⟩, h13.to hF hA n0, h14.to hF hA⟩
  · obtain ⟨⟨a1, a2, a3, a4, a5⟩, ⟨b1, b2, b3, b4⟩, c1, c2⟩ := h1
    refine ⟨⟨by rw [hF.K a3, a1], by rw [hA a a3, a2], hF.lt a3, by rw [hR, a4], by rw [hR, a5]⟩, ⟨by rw [hF.K b4, b1], by rw [hF.N b4, b2], by rw [hA v b4, b3], hF.lt b4⟩, by rw [hF.S]; exact c1, ?_⟩
    have e1 := mI 1 (by decide)
    have e2 := mI 2 (by decide)
    have e3 := mI 3 (by decide)
    have e5 := mI 5 (by decide)
    have e6 := mI 6 (by decide)
    have e7 := mI 7 (by decide)
    have f8 := mA 8 (by decide)
    have f9 := mA 9 (by decide)
    have f10 := mA 10 (by decide)
    have f11 := mA 11 (by decide)
    have f12 := mA 12 (by decide)
    have f13 := mA 13 (by decide)
    have c2' := c2.to (LI := []) (LA := []) (σ' := σ) (ρ' := ρ') hF (fun q hq k => by rw [hA q hq, k]) n0 Mf.rf (by decide) (by decide)
    unfold ScP at c2' ⊢
    rw [e1, e2, e3, e5, e6, e7, f8, f9, f10, f11, f12, f13]
    exact c2'
  · obtain ⟨z1, z2, z3⟩ := h5
    exact ⟨by rw [mI 59 (by decide), z1], by rw [mI 60 (by decide), z2], by rw [mI 64 (by decide), z3]⟩
  · rw [mA 53 (by decide), mA 55 (by decide), mI 56 (by decide)]
    exact h8.to hF hA (two 3 (by omega) q3) (hR 7)
  · rw [mA 75 (by decide), mI 74 (by decide)]
    exact h9.to hF hA (two 4 (by omega) q4) (hR 8)
  · rw [mA 77 (by decide), mI 76 (by decide)]
    exact h10.to hF hA (two 5 (by omega) q5) (hR 9)
