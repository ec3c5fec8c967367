set_option maxRecDepth 100000
/-! THE PLAIN LAW. No machine from here on. Wp x Q: the pure program x answers, and what it answers is as Q says. -/
def Wp {α : Type} (x : Option α) (Q : α → Prop) : Prop := ∃ r, x = some r ∧ Q r
theorem wp_ok {α : Type} {Q : α → Prop} {r : α} (h : Q r) : Wp (some r) Q := ⟨r, rfl, h⟩
theorem wp_of {α : Type} {x : Option α} {Q : α → Prop} {r : α} (e : x = some r) (h : Q r) : Wp x Q := ⟨r, e, h⟩
theorem wp_mono {α : Type} {x : Option α} {P Q : α → Prop} (h : Wp x P) (hq : ∀ r, P r → Q r) : Wp x Q := ⟨h.choose, h.choose_spec.1, hq _ h.choose_spec.2⟩
theorem wp_eq {α : Type} {x : Option α} {r : α} (h : Wp x (fun z => z = r)) : x = some r := by
  obtain ⟨z, e, h⟩ := h
  rw [e, h]
theorem wp_lt {α β : Type} {a : α} {k : α → Option β} {Q : β → Prop} (h : Wp (k a) Q) : Wp (lt a k) Q := h
theorem wp_bd {α : Type} {x : Option (Int32 × Mem)} {k : Int32 → Mem → Option α} {P : Int32 × Mem → Prop} {Q : α → Prop} (h : Wp x P) (hk : ∀ v M, P (v, M) → Wp (k v M) Q) : Wp (bd x k) Q := by
  obtain ⟨⟨v, M⟩, e, hP⟩ := h
  rw [e]
  exact hk v M hP
theorem wp_bdE {α : Type} {x : Option (Int32 × Mem)} {k : Int32 → Mem → Option α} {v : Int32} {M : Mem} {Q : α → Prop} (h : x = some (v, M)) (hk : Wp (k v M) Q) : Wp (bd x k) Q := by
  rw [h]
  exact hk
theorem wp_bx {x : Option TR} {k : Int32 → Mem → Option TR} {P Q : TR → Prop} (h : Wp x P) (hk : ∀ v M, P (0, v, M) → Wp (k v M) Q) (hx : ∀ e v M, P (e + 1, v, M) → Q (e + 1, v, M)) : Wp (bx x k) Q := by
  obtain ⟨⟨_ | e, v, M⟩, h1, hP⟩ := h
  · rw [h1]
    exact hk v M hP
  · rw [h1]
    exact ⟨_, rfl, hx e v M hP⟩
theorem bd_some {α : Type} {v : Int32} {M : Mem} {k : Int32 → Mem → Option α} : bd (some (v, M)) k = k v M := rfl
theorem bx_some {v : Int32} {M : Mem} {k : Int32 → Mem → Option TR} : bx (some (0, v, M)) k = k v M := rfl
theorem bx_ex {e : Nat} {v : Int32} {M : Mem} {k : Int32 → Mem → Option TR} : bx (some (e + 1, v, M)) k = some (e + 1, v, M) := rfl
theorem bh_some {α : Type} {v : Int32} {M : Mem} {k : Int32 → Mem → Option α} {kx : Nat → Mem → Option α} : bh (some (0, v, M)) k kx = k v M := rfl
theorem bh_ex {α : Type} {e : Nat} {v : Int32} {M : Mem} {k : Int32 → Mem → Option α} {kx : Nat → Mem → Option α} : bh (some (e + 1, v, M)) k kx = kx (e + 1) M := rfl
theorem gd_k {α : Type} {k n : Nat} {x : Option α} (h : k < n) (hn : n < 2 ^ 31) : gd (nI k) n x = x := if_neg (nI_in h hn)
theorem ile_t {α : Type} {a b : Nat} {x y : α} (h : a ≤ b) (hb : b < 2 ^ 31) : (if nI a ≤ nI b then x else y) = x := if_pos (nI_le h hb)
theorem ile_f {α : Type} {a b : Nat} {x y : α} (h : b < a) (ha : a < 2 ^ 31) : (if nI a ≤ nI b then x else y) = y := if_neg (nI_ge h ha)
theorem ilt_t {α : Type} {a b : Nat} {x y : α} (h : a < b) (hb : b < 2 ^ 31) : (if nI a < nI b then x else y) = x := if_pos (nI_lt h hb)
theorem ilt_f {α : Type} {a b : Nat} {x y : α} (h : b ≤ a) (ha : a < 2 ^ 31) : (if nI a < nI b then x else y) = y := if_neg (nI_nlt h ha)
theorem ilt0 {α : Type} {a : Nat} {x y : α} (ha : a < 2 ^ 31) : (if nI a < 0 then x else y) = y := if_neg (nI_pos ha)
theorem nI_mul (a b : Nat) : nI a * nI b = nI (a * b) := by
  apply Int32.toBitVec_inj.mp
  show BitVec.ofNat 32 a * BitVec.ofNat 32 b = BitVec.ofNat 32 (a * b)
  rw [BitVec.ofNat_mul]
theorem nI_ml (a b : Nat) [OfNat Nat a] : Int32.ofNat a * nI b = nI (a * b) := nI_mul a b
theorem nI_sub {a b : Nat} (h : b ≤ a) : nI a - nI b = nI (a - b) := by
  have e : nI a = nI (a - b) + nI b := by rw [nI_add, Nat.sub_add_cancel h]
  rw [e, Int32.add_sub_cancel]
/-- n steps -/
def it {α : Type} (f : Nat → α → α) (a : α) : Nat → α
  | 0 => a
  | n + 1 => f n (it f a n)
theorem it_inv {α : Type} {f : Nat → α → α} {a : α} (P : Nat → α → Prop) (h0 : P 0 a) (hs : ∀ k x, P k x → P (k + 1) (f k x)) : ∀ n, P n (it f a n)
  | 0 => h0
  | n + 1 => hs n _ (it_inv P h0 hs n)
theorem it_congr {α : Type} {f g : Nat → α → α} {a : α} : ∀ {n : Nat}, (∀ k, k < n → f k (it f a k) = g k (it f a k)) → it f a n = it g a n
  | 0, _ => rfl
  | n + 1, h => by
    show f n (it f a n) = g n (it g a n)
    rw [h n (Nat.lt_succ_self n), it_congr (fun k hk => h k (Nat.lt_succ_of_lt hk))]
/-- a loop with some measure -/
theorem wp_lp {σ ρ : Type} {body : (σ → Option ρ) → σ → Option ρ} {Q : ρ → Prop} (I : Nat → σ → Prop) (step : ∀ m z kn, I m z → (∀ m' z', m' < m → I m' z' → Wp (kn z') Q) → Wp (body kn z) Q) : ∀ {fu m : Nat} {z : σ}, m < fu → I m z → Wp (lp body fu z) Q
  | 0, m, z, h, _ => absurd h (Nat.not_lt_zero m)
  | fu + 1, m, z, h, hI => step m z (lp body fu) hI (fun m' z' hm hI' => wp_lp I step (by omega) hI')
/-- for (k = 0; k < n; k++) -/
theorem wp_for {σ ρ α : Type} {body : (σ → Option ρ) → σ → Option ρ} {Q : ρ → Prop} (mk : Mem → α → Nat → σ) (f : Nat → α → α) (a : α) (n : Nat) (H : Nat → Mem → Prop)
    (step : ∀ k M kn, k < n → H k M → (∀ M', H (k + 1) M' → Wp (kn (mk M' (f k (it f a k)) (k + 1))) Q) → Wp (body kn (mk M (it f a k) k)) Q)
    (fin : ∀ M kn, H n M → Wp (body kn (mk M (it f a n) n)) Q) {fu : Nat} {M : Mem} (hfu : n < fu) (hM : H 0 M) : Wp (lp body fu (mk M a 0)) Q := by
  refine wp_lp (fun m z => ∃ k M, k ≤ n ∧ m = n - k ∧ H k M ∧ z = mk M (it f a k) k) ?_ (m := n) hfu ⟨0, M, Nat.zero_le _, by omega, hM, rfl⟩
  rintro m z kn ⟨k, M, hk, rfl, hH, rfl⟩ ih
  rcases Nat.lt_or_ge k n with h | h
  · exact step k M kn h hH (fun M' hM' => ih (n - (k + 1)) _ (by omega) ⟨k + 1, M', h, rfl, hM', rfl⟩)
  · obtain rfl : k = n := by omega
    exact fin M kn hH
/-- for (k = 0; k < n; k++) where the memory stays -/
theorem wp_forP {σ ρ α : Type} {body : (σ → Option ρ) → σ → Option ρ} {Q : ρ → Prop} (mk : α → Nat → σ) (f : Nat → α → α) (a : α) (n : Nat)
    (step : ∀ k kn, k < n → Wp (kn (mk (f k (it f a k)) (k + 1))) Q → Wp (body kn (mk (it f a k) k)) Q)
    (fin : ∀ kn, Wp (body kn (mk (it f a n) n)) Q) {fu : Nat} (hfu : n < fu) : Wp (lp body fu (mk a 0)) Q := by
  refine wp_lp (fun m z => ∃ k, k ≤ n ∧ m = n - k ∧ z = mk (it f a k) k) ?_ (m := n) hfu ⟨0, Nat.zero_le _, by omega, rfl⟩
  rintro m z kn ⟨k, hk, rfl, rfl⟩ ih
  rcases Nat.lt_or_ge k n with h | h
  · exact step k kn h (ih (n - (k + 1)) _ (by omega) ⟨k + 1, h, rfl, rfl⟩)
  · obtain rfl : k = n := by omega
    exact fin kn
theorem upc {M : Mem} {c c' : CId} {k : Nat} {v : Int32} (h : c' ≠ c) : up M c k v c' = M c' := if_neg h
theorem up_at {M : Mem} {c : CId} {k j : Nat} {v : Int32} : up M c k v c j = if j = k then v else M c j := by
  unfold up
  rw [if_pos rfl]
theorem upe {M : Mem} {c : CId} {k : Nat} {v : Int32} : up M c k v c k = v := by rw [up_at, if_pos rfl]
theorem upn {M : Mem} {c : CId} {k j : Nat} {v : Int32} (h : j ≠ k) : up M c k v c j = M c j := by rw [up_at, if_neg h]
/-- 0 ≤ x < n -/
theorem in_cases (x : Int32) {n : Nat} (hn : n < 2 ^ 31) : (∃ k, k < n ∧ x = nI k) ∨ (x < 0 ∨ ¬ x < nI n) := by
  by_cases h0 : x < 0
  · exact Or.inr (Or.inl h0)
  · obtain ⟨k, hk, rfl⟩ := nI_of h0
    rcases Nat.lt_or_ge k n with h | h
    · exact Or.inl ⟨k, h, rfl⟩
    · exact Or.inr (Or.inr (nI_nlt h hk))
