/-! THE 55 CALLS, uniform: what the component answers, what the model answers -/
set_option maxRecDepth 100000
def lF (a b : Int32) : Int64 := (a.toInt64 <<< ((32 : Int32).toInt64 &&& 63)) ||| (b.toInt64 &&& 4294967295)
/-- the k-th call of the component -/
def cCall (k : Nat) (a b c d : Int32) (σ : SS) (δ : DS) : Option (Int32 × SS × DS) := match k with
  | 0 => f0_person σ δ a b c
  | 1 => (f0_personOf 1000 δ σ a b).map fun r => (r.1, r.2, δ)
  | 2 => f0_change σ δ a b c
  | 3 => f0_remake σ δ a b
  | 4 => (f0_deed σ a b c d).map fun r => (r.1, r.2, δ)
  | 5 => (f0_deedOf δ σ a b).map fun r => (r, σ, δ)
  | 6 => (f0_ends σ a).map fun r => (r.1, r.2, δ)
  | 7 => (f0_anew 1000 σ).map fun r => (r.1, r.2, δ)
  | 8 => (f0_state σ a).map fun r => (r, σ, δ)
  | 9 => (f0_feed 1000 σ (lF a b) c).map fun r => (r.1, r.2, δ)
  | 10 => f0_rules 1000 σ δ
  | 11 => (f0_year 1000 δ σ).map fun r => (r.1, r.2, δ)
  | 12 => (f0_standing 1000 σ a).map fun r => (r, σ, δ)
  | 13 => (f0_leaves 1000 δ σ a).map fun r => (r.1, r.2, δ)
  | 14 => (f0_on 1000 δ σ a).map fun r => (r.1, r.2, δ)
  | 15 => (f0_until 1000 δ σ a).map fun r => (r.1, r.2, δ)
  | 16 => (f0_overdue 1000 δ σ).map fun r => (r.1, r.2, δ)
  | 17 => (f0_falls 1000 σ a).map fun r => (r.1, r.2, δ)
  | 18 => f0_graceFor 1000 σ δ a
  | 19 => (f0_strengthFor 1000 δ σ a).map fun r => (r.1, r.2, δ)
  | 20 => (f0_owe σ a b c).map fun r => (r.1, r.2, δ)
  | 21 => (f0_owes σ a b).map fun r => (r, σ, δ)
  | 22 => (f0_net 1000 σ a).map fun r => (r, σ, δ)
  | 23 => (f0_ring 1000 σ a).map fun r => (r, σ, δ)
  | 24 => (f0_payments 1000 σ).map fun r => (r.1, r.2, δ)
  | 25 => (f0_best 1000 δ σ a).map fun r => (r.1, r.2, δ)
  | 26 => (f0_ith 1000 δ σ a b).map fun r => (r.1, r.2, δ)
  | 27 => (f0_ways 1000 δ σ a).map fun r => (r.1, r.2, δ)
  | 28 => (f0_life 1000 δ σ a b).map fun r => (r.1, r.2, δ)
  | 29 => (f0_bars 1000 δ σ a b).map fun r => (r.1, r.2, δ)
  | 30 => (f0_game 1000 δ σ a).map fun r => (r.1, r.2, δ)
  | 31 => (f0_play 1000 δ σ a).map fun r => (r.1, r.2, δ)
  | 32 => (f0_report σ a b c d).map fun r => (r.1, r.2, δ)
  | 33 => (f0_forget σ).map fun r => (r.1, r.2, δ)
  | 34 => f0_span 1000 σ δ a
  | 35 => f0_liar 1000 σ δ
  | 36 => (f0_seed σ a).map fun r => (r.1, r.2, δ)
  | 37 => (f0_lot 1000 δ σ).map fun r => (r.1, r.2, δ)
  | 38 => (f0_often 1000 δ σ a b).map fun r => (r.1, r.2, δ)
  | 39 => (f0_prove 1000 δ σ a).map fun r => (r.1, r.2, δ)
  | 40 => (f0_row σ a b).map fun r => (r, σ, δ)
  | 41 => (f0_alterRow σ a b c).map fun r => (r.1, r.2, δ)
  | 42 => (f0_judge 1000 δ σ).map fun r => (r.1, r.2, δ)
  | 43 => f0_sheet σ δ a b c
  | 44 => f0_write σ δ a b c
  | 45 => f0_item σ δ a b c
  | 46 => f0_goAll 1000 σ δ a b c
  | 47 => f0_wouldBe 1000 σ δ a b c
  | 48 => f0_shelf σ δ a b c
  | 49 => f0_taken σ δ a b
  | 50 => f0_act σ δ a b c
  | 51 => (f0_trace σ a).map fun r => (r, σ, δ)
  | 52 => (f0_many 1000 δ σ a).map fun r => (r, σ, δ)
  | 53 => (f0_keep σ).map fun r => (r.1, r.2, δ)
  | 54 => f0_again 1000 σ δ
  | _ => some (0, σ, δ)
/-- the k-th call of the model -/
def mCall (k : Nat) (a b c d : Int32) (μ : MS) : Option (Int32 × MS) := match k with
  | 0 => m_person μ a b c
  | 1 => m_personOf 1000 μ a b
  | 2 => m_change μ a b c
  | 3 => m_remake μ a b
  | 4 => m_deed μ a b c d
  | 5 => (m_deedOf μ a b).map fun r => (r, μ)
  | 6 => m_ends μ a
  | 7 => m_anew 1000 μ
  | 8 => (m_state μ a).map fun r => (r, μ)
  | 9 => m_feed 1000 μ (lF a b) c
  | 10 => m_rules 1000 μ
  | 11 => m_year 1000 μ
  | 12 => (m_standing 1000 μ a).map fun r => (r, μ)
  | 13 => m_leaves 1000 μ a
  | 14 => m_on 1000 μ a
  | 15 => m_until 1000 μ a
  | 16 => m_overdue 1000 μ
  | 17 => m_falls 1000 μ a
  | 18 => m_graceFor 1000 μ a
  | 19 => m_strengthFor 1000 μ a
  | 20 => m_owe μ a b c
  | 21 => (m_owes μ a b).map fun r => (r, μ)
  | 22 => (m_net 1000 μ a).map fun r => (r, μ)
  | 23 => (m_ring 1000 μ a).map fun r => (r, μ)
  | 24 => m_payments 1000 μ
  | 25 => m_best 1000 μ a
  | 26 => m_ith 1000 μ a b
  | 27 => m_ways 1000 μ a
  | 28 => m_life 1000 μ a b
  | 29 => m_bars 1000 μ a b
  | 30 => m_game 1000 μ a
  | 31 => m_play 1000 μ a
  | 32 => m_report μ a b c d
  | 33 => m_forget μ
  | 34 => m_span 1000 μ a
  | 35 => m_liar 1000 μ
  | 36 => m_seed μ a
  | 37 => m_lot 1000 μ
  | 38 => m_often 1000 μ a b
  | 39 => m_prove 1000 μ a
  | 40 => (m_row μ a b).map fun r => (r, μ)
  | 41 => m_alterRow μ a b c
  | 42 => m_judge 1000 μ
  | 43 => m_sheet 1000 μ a b c
  | 44 => m_write μ a b c
  | 45 => (m_item μ a b c).map fun r => (r, μ)
  | 46 => m_goAll 1000 μ a b c
  | 47 => m_wouldBe 1000 μ a b c
  | 48 => m_shelf μ a b c
  | 49 => (m_taken μ a b).map fun r => (r, μ)
  | 50 => m_act μ a b c
  | 51 => (m_trace μ a).map fun r => (r, μ)
  | 52 => (m_many 1000 μ a).map fun r => (r, μ)
  | 53 => m_keep 1000 μ
  | 54 => m_again 1000 μ
  | _ => some (0, μ)
/-- the plain law: from pictures that belong together, the k-th call answers alike and leaves pictures that belong together -/
def pLaw (Rel : SS → DS → MS → Prop) (k : Nat) (a b c d : Int32) (σ : SS) (δ : DS) (μ : MS) : Prop :=
  ∃ r σ' δ' μ', cCall k a b c d σ δ = some (r, σ', δ') ∧ mCall k a b c d μ = some (r, μ') ∧ (∀ n2, δ'.2 ≤ n2 → n2 ≤ δ'.2 + 3 → Rel σ' (δ'.1, n2) μ') ∧ δ.2 ≤ δ'.2 ∧ δ'.2 ≤ δ.2 + 2500
