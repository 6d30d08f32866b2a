/-! LAWS: known words (own work) -/
set_option maxRecDepth 100000
/-- the model's known words, in its order -/
def wl_ : List (List Nat) := [[115, 101, 101, 110], [119, 97, 115], [114, 105, 110, 103], [116, 101, 110, 116, 104], [109, 97, 114, 107], [105, 110, 99, 104], [111, 102, 102], [104, 111, 108, 101], [102, 114, 111, 109], [103, 111], [115, 116, 97, 121], [98, 101, 104, 105, 110, 100], [104, 105, 109], [104, 101, 114], [108, 97, 103], [119, 114, 105, 115, 116], [101, 121, 101], [115, 104, 111, 119, 115], [104, 97, 110, 100], [97, 110, 100], [111, 114], [110, 111, 116]]
def wd_ (tx : Nat → Nat) (b n : Nat) : List Nat := (List.range n).map (fun i => tx (b + i))
def hw_ (w : List Nat) : Int64 := w.foldl (fun h c => ha_ h (nI c)) 0
def va_ (w : List Nat) : Nat := w.foldl (fun h c => h * 32 + (c - 96)) 0
theorem wd_s {tx : Nat → Nat} {b n : Nat} : wd_ tx b (n + 1) = wd_ tx b n ++ [tx (b + n)] := by
  unfold wd_
  rw [List.range_succ, List.map_append]
  rfl
theorem wd_len {tx : Nat → Nat} {b n : Nat} : (wd_ tx b n).length = n := by unfold wd_; simp
theorem wd_at {tx : Nat → Nat} {b n i : Nat} (h : i < n) : (wd_ tx b n)[i]? = some (tx (b + i)) := by unfold wd_; simp [h]
theorem hl_hw {tx : Nat → Nat} {b : Nat} : ∀ n, hl_ tx b n = hw_ (wd_ tx b n) := by
  intro n
  induction n with
  | zero => rfl
  | succ n ih =>
    rw [wd_s]
    unfold hl_ hw_
    rw [List.foldl_append, ih]
    rfl
theorem lt_c : ∀ c : Fin 123, 97 ≤ c.val → (nI c.val - 96).toInt64 = Int64.ofNat (c.val - 96) := by decide +kernel
theorem or_l {a d : Nat} (ha : a < 2 ^ 58) (hd : d < 32) : (Int64.ofNat a <<< (5 : Int64)) ||| Int64.ofNat d = Int64.ofNat (a * 32 + d) := by
  apply Int64.toBitVec_inj.mp
  rw [Int64.toBitVec_or, Int64.toBitVec_shiftLeft]
  have e5 : (5 : Int64).toBitVec.smod 64 = 5#64 := by decide
  rw [e5]
  have ea : (Int64.ofNat a).toBitVec = BitVec.ofNat 64 a := rfl
  have ed : (Int64.ofNat d).toBitVec = BitVec.ofNat 64 d := rfl
  have es : (Int64.ofNat (a * 32 + d)).toBitVec = BitVec.ofNat 64 (a * 32 + d) := rfl
  rw [ea, ed, es]
  apply BitVec.eq_of_toNat_eq
  rw [BitVec.toNat_or, BitVec.shiftLeft_eq', BitVec.toNat_shiftLeft, BitVec.toNat_ofNat, BitVec.toNat_ofNat, BitVec.toNat_ofNat, BitVec.toNat_ofNat, show 5 % 2 ^ 64 = 5 from rfl, Nat.shiftLeft_eq, Nat.mod_eq_of_lt (show a < 2 ^ 64 by omega), Nat.mod_eq_of_lt (show d < 2 ^ 64 by omega), Nat.mod_eq_of_lt (show a * 32 + d < 2 ^ 64 by omega), Nat.mod_eq_of_lt (show a * 2 ^ 5 < 2 ^ 64 by omega)]
  have h2 := Nat.two_pow_add_eq_or_of_lt (i := 5) (b := d) (by omega) a
  rw [Nat.mul_comm a (2 ^ 5), ← h2]
theorem ha_l {a c : Nat} (ha : a < 2 ^ 58) (hc : 97 ≤ c ∧ c ≤ 122) : ha_ (Int64.ofNat a) (nI c) = Int64.ofNat (a * 32 + (c - 96)) := by
  have h1 := lt_c ⟨c, by omega⟩ hc.1
  simp only at h1
  unfold ha_
  rw [h1, show ((5 : Int32).toInt64 &&& 63) = 5 from by decide]
  exact or_l ha (by omega)
def let_ (w : List Nat) : Prop := ∀ c, c ∈ w → 97 ≤ c ∧ c ≤ 122
theorem hw_va : ∀ w : List Nat, let_ w → w.length ≤ 6 → ∀ (h : Nat) (k : Nat), h < 2 ^ (5 * k) → k + w.length ≤ 6 → w.foldl (fun h c => ha_ h (nI c)) (Int64.ofNat h) = Int64.ofNat (w.foldl (fun h c => h * 32 + (c - 96)) h) ∧ w.foldl (fun h c => h * 32 + (c - 96)) h < 2 ^ (5 * (k + w.length)) := by
  intro w
  induction w with
  | nil => intro _ _ h k hh _; exact ⟨rfl, hh⟩
  | cons c w ih =>
    intro hl hlen h k hh hk
    have hc := hl c (List.mem_cons_self)
    have hk' : k + 1 + w.length ≤ 6 := by have : (c :: w).length = w.length + 1 := rfl; omega
    have hpow : 2 ^ (5 * (k + 1)) = 2 ^ (5 * k) * 32 := by rw [show 5 * (k + 1) = 5 * k + 5 by omega, Nat.pow_add]
    have h58 : 2 ^ (5 * k) ≤ 2 ^ 58 := Nat.pow_le_pow_right (by omega) (by omega)
    have hnew : h * 32 + (c - 96) < 2 ^ (5 * (k + 1)) := by rw [hpow]; omega
    obtain ⟨r1, r2⟩ := ih (fun x hx => hl x (List.mem_cons_of_mem _ hx)) (by have : (c :: w).length = w.length + 1 := rfl; omega) (h * 32 + (c - 96)) (k + 1) hnew hk'
    refine ⟨?_, ?_⟩
    · show w.foldl _ (ha_ (Int64.ofNat h) (nI c)) = Int64.ofNat (w.foldl _ (h * 32 + (c - 96)))
      rw [ha_l (by omega) hc, r1]
    · show w.foldl _ (h * 32 + (c - 96)) < _
      rw [show k + (c :: w).length = k + 1 + w.length by have : (c :: w).length = w.length + 1 := rfl; omega]
      exact r2
/-- the value tells the word -/
def vr_ : List Nat → Nat
  | [] => 0
  | c :: w => vr_ w * 32 + (c - 96)
theorem va_vr (w : List Nat) : va_ w = vr_ w.reverse := by
  unfold va_
  rw [← List.foldr_reverse]
  induction w.reverse with
  | nil => rfl
  | cons c w ih => show (List.foldr _ 0 w) * 32 + (c - 96) = _; rw [ih]; rfl
theorem vr_inj : ∀ s t : List Nat, let_ s → let_ t → vr_ s = vr_ t → s = t := by
  intro s
  induction s with
  | nil =>
    intro t _ ht h
    cases t with
    | nil => rfl
    | cons c t =>
      have := ht c List.mem_cons_self
      have h' : 0 = vr_ t * 32 + (c - 96) := h
      omega
  | cons c s ih =>
    intro t hs ht h
    have hc := hs c List.mem_cons_self
    cases t with
    | nil =>
      have h' : vr_ s * 32 + (c - 96) = 0 := h
      omega
    | cons d t =>
      have hd := ht d List.mem_cons_self
      have h' : vr_ s * 32 + (c - 96) = vr_ t * 32 + (d - 96) := h
      have e1 : c = d := by omega
      have e2 : vr_ s = vr_ t := by omega
      rw [e1, ih t (fun x hx => hs x (List.mem_cons_of_mem _ hx)) (fun x hx => ht x (List.mem_cons_of_mem _ hx)) e2]
theorem hw_inj {v w : List Nat} (hv : let_ v) (hw : let_ w) (lv : v.length ≤ 6) (lw : w.length ≤ 6) (h : hw_ v = hw_ w) : v = w := by
  obtain ⟨a1, a2⟩ := hw_va v hv lv 0 0 (by decide) (by omega)
  obtain ⟨b1, b2⟩ := hw_va w hw lw 0 0 (by decide) (by omega)
  have a1' : hw_ v = Int64.ofNat (va_ v) := a1
  have b1' : hw_ w = Int64.ofNat (va_ w) := b1
  have p : ∀ n, n ≤ 6 → 2 ^ (5 * (0 + n)) ≤ 2 ^ 30 := fun n hn => Nat.pow_le_pow_right (by omega) (by omega)
  have a2' : va_ v < 2 ^ 30 := Nat.lt_of_lt_of_le a2 (p _ lv)
  have b2' : va_ w < 2 ^ 30 := Nat.lt_of_lt_of_le b2 (p _ lw)
  have e : va_ v = va_ w := by
    rw [a1', b1'] at h
    have h2 := congrArg Int64.toInt h
    rw [Int64.toInt_ofNat_of_lt (by omega), Int64.toInt_ofNat_of_lt (by omega)] at h2
    omega
  rw [va_vr, va_vr] at e
  have := vr_inj v.reverse w.reverse (fun c hc => hv c (List.mem_reverse.mp hc)) (fun c hc => hw c (List.mem_reverse.mp hc)) e
  exact List.reverse_inj.mp this
theorem letters_l : ∀ i : Fin 22, X4_letters (nI i.val) = (wl_[i.val]?).map hw_ := by decide +kernel
theorem wl_ok : ∀ w, w ∈ wl_ → w.length ≤ 6 ∧ ∀ c, c ∈ w → 97 ≤ c ∧ c ≤ 122 := by decide
theorem idx_l : ∀ i : Fin 22, (wl_[i.val]?).map (fun w => wl_.idxOf w) = some i.val := by decide +kernel
/-- which known word -/
def ki_ (w : List Nat) : Int32 := if w ∈ wl_ then nI (wl_.idxOf w) else -1
theorem lg0 {x y : Int64} : lg_cmp x y = 0 ↔ x = y := by
  unfold lg_cmp
  by_cases h : x > y
  · rw [if_pos h]
    constructor
    · intro k; exact absurd k (by decide)
    · intro k
      rw [k] at h
      exact absurd h (by rw [gt_iff_lt, Int64.lt_iff_toInt_lt]; omega)
  · rw [if_neg h]
    by_cases h2 : x = y
    · rw [if_pos h2]; exact ⟨fun _ => h2, fun _ => rfl⟩
    · rw [if_neg h2]
      exact ⟨fun k => absurd k (by decide), fun k => absurd k h2⟩
theorem knownWord_l {g : GS} {rd L b e kd : Nat} {tx : Nat → Nat} {σ : MS} (h : TokP g rd L tx b e kd σ) (hL : L ≤ 700) : X4_knownWord σ = some (if kd = 1 then ki_ (wd_ tx b (e - b)) else -1) := by
  obtain ⟨-, ⟨-, m21, -, m23⟩, ⟨hb, he⟩, hk⟩ := h
  have hkd : kd ≤ 4 := by
    rcases hk with ⟨k, -⟩ | ⟨k, -⟩ | ⟨k, -⟩ | ⟨k, -⟩ | ⟨k, -⟩ <;> omega
  unfold X4_knownWord
  rw [m21]
  by_cases h1 : kd = 1
  · rcases hk with ⟨k, -⟩ | ⟨-, hbe, hlet, hmL⟩ | ⟨k, -⟩ | ⟨k, -⟩ | ⟨k, -⟩
    · omega
    · have hletw : let_ (wd_ tx b (e - b)) := fun c hc => by
        unfold wd_ at hc
        obtain ⟨i, hi, rfl⟩ := List.mem_map.mp hc
        have := List.mem_range.mp hi
        exact hlet (b + i) (by omega) (by omega)
      rw [if_pos (by rw [h1]; rfl), if_pos h1, m23]
      by_cases h6 : e - b ≤ 6
      · rw [if_pos (show nI (e - b) ≤ 6 from nI_le (b := 6) h6 (by omega))]
        have hmL' := hmL h6
        rw [hl_hw] at hmL'
        obtain ⟨o, u1, u2⟩ := lp_t (body := fun a => X4_knownWord_b21 σ a)
          (I := fun m a => ∃ i, a = nI i ∧ i ≤ 22 ∧ m = 22 - i ∧ ∀ j, j < i → wl_[j]? ≠ some (wd_ tx b (e - b)))
          (Q := fun o => (∃ i, o = .inl (nI i) ∧ i < 22 ∧ wl_[i]? = some (wd_ tx b (e - b)) ∧ ∀ j, j < i → wl_[j]? ≠ some (wd_ tx b (e - b))) ∨ (o = .inr () ∧ ∀ j, j < 22 → wl_[j]? ≠ some (wd_ tx b (e - b))))
          (by
            rintro m a ⟨i, rfl, i2, i3, i4⟩
            unfold X4_knownWord_b21
            by_cases hi : i < 22
            · have hll := letters_l ⟨i, hi⟩
              simp only at hll
              have hwi : i < wl_.length := hi
              obtain ⟨w, hw⟩ := get_ex (xs := wl_) hwi
              rw [hw] at hll
              have hwm : w ∈ wl_ := List.mem_of_getElem? hw
              obtain ⟨o1, o2⟩ := wl_ok w hwm
              rw [if_neg (show ¬ (22 : Int32) ≤ nI i from nI_ge (b := 22) hi (by omega)), hll, Option.map_some, e_ob, hmL']
              by_cases q : w = wd_ tx b (e - b)
              · rw [if_pos (lg0.mpr (by rw [q]))]
                exact Or.inr ⟨_, rfl, Or.inl ⟨i, rfl, hi, by rw [hw, q], i4⟩⟩
              · rw [if_neg (fun k => q (hw_inj o2 hletw o1 (by rw [wd_len]; exact h6) (lg0.mp k))), nI_1]
                refine Or.inl ⟨_, m - 1, by omega, rfl, i + 1, rfl, by omega, by omega, fun j hj => ?_⟩
                by_cases k : j = i
                · rw [k, hw]
                  exact fun z => q (Option.some.inj z)
                · exact i4 j (by omega)
            · rw [if_pos (show (22 : Int32) ≤ nI i from nI_le (a := 22) (by omega) (by omega))]
              exact Or.inr ⟨_, rfl, Or.inr ⟨rfl, fun j hj => i4 j (by omega)⟩⟩)
          fu_ 22 (nI 0) ⟨0, rfl, by omega, rfl, fun j hj => absurd hj (Nat.not_lt_zero _)⟩ (by unfold fu_; omega)
        rw [show (lp_ (fun a => X4_knownWord_b21 σ a) fu_ 0) = _ from u1, e_ob]
        unfold ki_
        rcases u2 with ⟨i, rfl, hi, hw, hno⟩ | ⟨rfl, hno⟩
        · have hm : wd_ tx b (e - b) ∈ wl_ := List.mem_of_getElem? hw
          rw [if_pos hm]
          show some (nI i) = some (nI (wl_.idxOf (wd_ tx b (e - b))))
          have hx : wl_.idxOf (wd_ tx b (e - b)) = i := by
            have z := idx_l ⟨i, hi⟩
            simp only at z
            rw [hw] at z
            exact Option.some.inj z
          rw [hx]
        · rw [if_neg]
          · rfl
          · intro hm
            obtain ⟨j, hj, hjw⟩ := List.mem_iff_getElem.mp hm
            exact hno j hj (by rw [List.getElem?_eq_getElem hj, hjw])
      · rw [if_neg (show ¬ nI (e - b) ≤ 6 from nI_ge (a := 6) (by omega) (by omega))]
        unfold ki_
        rw [if_neg]
        intro hm
        have := (wl_ok _ hm).1
        rw [wd_len] at this
        omega
    · omega
    · omega
    · omega
  · rw [if_neg (show ¬ nI kd = 1 from fun k => h1 (nI_inj (b := 1) (by omega) (by omega) k)), if_neg h1]
