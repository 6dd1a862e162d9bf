/-! PLAIN LAW: the calls by number -/
theorem cc0 (a b c d : Int32) (σ : SS) (δ : DS) : cCall 0 a b c d σ δ = f0_person σ δ a b c := rfl
theorem cc1 (a b c d : Int32) (σ : SS) (δ : DS) : cCall 1 a b c d σ δ = (f0_personOf 1000 δ σ a b).map fun r => (r.1, r.2, δ) := rfl
theorem cc2 (a b c d : Int32) (σ : SS) (δ : DS) : cCall 2 a b c d σ δ = f0_change σ δ a b c := rfl
theorem cc3 (a b c d : Int32) (σ : SS) (δ : DS) : cCall 3 a b c d σ δ = f0_remake σ δ a b := rfl
theorem cc4 (a b c d : Int32) (σ : SS) (δ : DS) : cCall 4 a b c d σ δ = (f0_deed σ a b c d).map fun r => (r.1, r.2, δ) := rfl
theorem cc5 (a b c d : Int32) (σ : SS) (δ : DS) : cCall 5 a b c d σ δ = (f0_deedOf δ σ a b).map fun r => (r, σ, δ) := rfl
theorem cc6 (a b c d : Int32) (σ : SS) (δ : DS) : cCall 6 a b c d σ δ = (f0_ends σ a).map fun r => (r.1, r.2, δ) := rfl
theorem cc7 (a b c d : Int32) (σ : SS) (δ : DS) : cCall 7 a b c d σ δ = (f0_anew 1000 σ).map fun r => (r.1, r.2, δ) := rfl
theorem cc8 (a b c d : Int32) (σ : SS) (δ : DS) : cCall 8 a b c d σ δ = (f0_state σ a).map fun r => (r, σ, δ) := rfl
theorem cc9 (a b c d : Int32) (σ : SS) (δ : DS) : cCall 9 a b c d σ δ = (f0_feed 1000 σ (lF a b) c).map fun r => (r.1, r.2, δ) := rfl
theorem cc10 (a b c d : Int32) (σ : SS) (δ : DS) : cCall 10 a b c d σ δ = f0_rules 1000 σ δ := rfl
theorem cc11 (a b c d : Int32) (σ : SS) (δ : DS) : cCall 11 a b c d σ δ = (f0_year 1000 δ σ).map fun r => (r.1, r.2, δ) := rfl
theorem cc12 (a b c d : Int32) (σ : SS) (δ : DS) : cCall 12 a b c d σ δ = (f0_standing 1000 σ a).map fun r => (r, σ, δ) := rfl
theorem cc13 (a b c d : Int32) (σ : SS) (δ : DS) : cCall 13 a b c d σ δ = (f0_leaves 1000 δ σ a).map fun r => (r.1, r.2, δ) := rfl
theorem cc14 (a b c d : Int32) (σ : SS) (δ : DS) : cCall 14 a b c d σ δ = (f0_on 1000 δ σ a).map fun r => (r.1, r.2, δ) := rfl
theorem cc15 (a b c d : Int32) (σ : SS) (δ : DS) : cCall 15 a b c d σ δ = (f0_until 1000 δ σ a).map fun r => (r.1, r.2, δ) := rfl
theorem cc16 (a b c d : Int32) (σ : SS) (δ : DS) : cCall 16 a b c d σ δ = (f0_overdue 1000 δ σ).map fun r => (r.1, r.2, δ) := rfl
theorem cc17 (a b c d : Int32) (σ : SS) (δ : DS) : cCall 17 a b c d σ δ = (f0_falls 1000 σ a).map fun r => (r.1, r.2, δ) := rfl
theorem cc18 (a b c d : Int32) (σ : SS) (δ : DS) : cCall 18 a b c d σ δ = f0_graceFor 1000 σ δ a := rfl
theorem cc19 (a b c d : Int32) (σ : SS) (δ : DS) : cCall 19 a b c d σ δ = (f0_strengthFor 1000 δ σ a).map fun r => (r.1, r.2, δ) := rfl
theorem cc20 (a b c d : Int32) (σ : SS) (δ : DS) : cCall 20 a b c d σ δ = (f0_owe σ a b c).map fun r => (r.1, r.2, δ) := rfl
theorem cc21 (a b c d : Int32) (σ : SS) (δ : DS) : cCall 21 a b c d σ δ = (f0_owes σ a b).map fun r => (r, σ, δ) := rfl
theorem cc22 (a b c d : Int32) (σ : SS) (δ : DS) : cCall 22 a b c d σ δ = (f0_net 1000 σ a).map fun r => (r, σ, δ) := rfl
theorem cc23 (a b c d : Int32) (σ : SS) (δ : DS) : cCall 23 a b c d σ δ = (f0_ring 1000 σ a).map fun r => (r, σ, δ) := rfl
theorem cc24 (a b c d : Int32) (σ : SS) (δ : DS) : cCall 24 a b c d σ δ = (f0_payments 1000 σ).map fun r => (r.1, r.2, δ) := rfl
theorem cc25 (a b c d : Int32) (σ : SS) (δ : DS) : cCall 25 a b c d σ δ = (f0_best 1000 δ σ a).map fun r => (r.1, r.2, δ) := rfl
theorem cc26 (a b c d : Int32) (σ : SS) (δ : DS) : cCall 26 a b c d σ δ = (f0_ith 1000 δ σ a b).map fun r => (r.1, r.2, δ) := rfl
theorem cc27 (a b c d : Int32) (σ : SS) (δ : DS) : cCall 27 a b c d σ δ = (f0_ways 1000 δ σ a).map fun r => (r.1, r.2, δ) := rfl
theorem cc28 (a b c d : Int32) (σ : SS) (δ : DS) : cCall 28 a b c d σ δ = (f0_life 1000 δ σ a b).map fun r => (r.1, r.2, δ) := rfl
theorem cc29 (a b c d : Int32) (σ : SS) (δ : DS) : cCall 29 a b c d σ δ = (f0_bars 1000 δ σ a b).map fun r => (r.1, r.2, δ) := rfl
theorem cc30 (a b c d : Int32) (σ : SS) (δ : DS) : cCall 30 a b c d σ δ = (f0_game 1000 δ σ a).map fun r => (r.1, r.2, δ) := rfl
theorem cc31 (a b c d : Int32) (σ : SS) (δ : DS) : cCall 31 a b c d σ δ = (f0_play 1000 δ σ a).map fun r => (r.1, r.2, δ) := rfl
theorem cc32 (a b c d : Int32) (σ : SS) (δ : DS) : cCall 32 a b c d σ δ = (f0_report σ a b c d).map fun r => (r.1, r.2, δ) := rfl
theorem cc33 (a b c d : Int32) (σ : SS) (δ : DS) : cCall 33 a b c d σ δ = (f0_forget σ).map fun r => (r.1, r.2, δ) := rfl
theorem cc34 (a b c d : Int32) (σ : SS) (δ : DS) : cCall 34 a b c d σ δ = f0_span 1000 σ δ a := rfl
theorem cc35 (a b c d : Int32) (σ : SS) (δ : DS) : cCall 35 a b c d σ δ = f0_liar 1000 σ δ := rfl
theorem cc36 (a b c d : Int32) (σ : SS) (δ : DS) : cCall 36 a b c d σ δ = (f0_seed σ a).map fun r => (r.1, r.2, δ) := rfl
theorem cc37 (a b c d : Int32) (σ : SS) (δ : DS) : cCall 37 a b c d σ δ = (f0_lot 1000 δ σ).map fun r => (r.1, r.2, δ) := rfl
theorem cc38 (a b c d : Int32) (σ : SS) (δ : DS) : cCall 38 a b c d σ δ = (f0_often 1000 δ σ a b).map fun r => (r.1, r.2, δ) := rfl
theorem cc39 (a b c d : Int32) (σ : SS) (δ : DS) : cCall 39 a b c d σ δ = (f0_prove 1000 δ σ a).map fun r => (r.1, r.2, δ) := rfl
theorem cc40 (a b c d : Int32) (σ : SS) (δ : DS) : cCall 40 a b c d σ δ = (f0_row σ a b).map fun r => (r, σ, δ) := rfl
theorem cc41 (a b c d : Int32) (σ : SS) (δ : DS) : cCall 41 a b c d σ δ = (f0_alterRow σ a b c).map fun r => (r.1, r.2, δ) := rfl
theorem cc42 (a b c d : Int32) (σ : SS) (δ : DS) : cCall 42 a b c d σ δ = (f0_judge 1000 δ σ).map fun r => (r.1, r.2, δ) := rfl
theorem cc43 (a b c d : Int32) (σ : SS) (δ : DS) : cCall 43 a b c d σ δ = f0_sheet σ δ a b c := rfl
theorem cc44 (a b c d : Int32) (σ : SS) (δ : DS) : cCall 44 a b c d σ δ = f0_write σ δ a b c := rfl
theorem cc45 (a b c d : Int32) (σ : SS) (δ : DS) : cCall 45 a b c d σ δ = f0_item σ δ a b c := rfl
theorem cc46 (a b c d : Int32) (σ : SS) (δ : DS) : cCall 46 a b c d σ δ = f0_goAll 1000 σ δ a b c := rfl
theorem cc47 (a b c d : Int32) (σ : SS) (δ : DS) : cCall 47 a b c d σ δ = f0_wouldBe 1000 σ δ a b c := rfl
theorem cc48 (a b c d : Int32) (σ : SS) (δ : DS) : cCall 48 a b c d σ δ = f0_shelf σ δ a b c := rfl
theorem cc49 (a b c d : Int32) (σ : SS) (δ : DS) : cCall 49 a b c d σ δ = f0_taken σ δ a b := rfl
theorem cc50 (a b c d : Int32) (σ : SS) (δ : DS) : cCall 50 a b c d σ δ = f0_act σ δ a b c := rfl
theorem cc51 (a b c d : Int32) (σ : SS) (δ : DS) : cCall 51 a b c d σ δ = (f0_trace σ a).map fun r => (r, σ, δ) := rfl
theorem cc52 (a b c d : Int32) (σ : SS) (δ : DS) : cCall 52 a b c d σ δ = (f0_many 1000 δ σ a).map fun r => (r, σ, δ) := rfl
theorem cc53 (a b c d : Int32) (σ : SS) (δ : DS) : cCall 53 a b c d σ δ = (f0_keep σ).map fun r => (r.1, r.2, δ) := rfl
theorem cc54 (a b c d : Int32) (σ : SS) (δ : DS) : cCall 54 a b c d σ δ = f0_again 1000 σ δ := rfl
theorem mc0 (a b c d : Int32) (μ : MS) : mCall 0 a b c d μ = m_person μ a b c := rfl
theorem mc1 (a b c d : Int32) (μ : MS) : mCall 1 a b c d μ = m_personOf 1000 μ a b := rfl
theorem mc2 (a b c d : Int32) (μ : MS) : mCall 2 a b c d μ = m_change μ a b c := rfl
theorem mc3 (a b c d : Int32) (μ : MS) : mCall 3 a b c d μ = m_remake μ a b := rfl
theorem mc4 (a b c d : Int32) (μ : MS) : mCall 4 a b c d μ = m_deed μ a b c d := rfl
theorem mc5 (a b c d : Int32) (μ : MS) : mCall 5 a b c d μ = (m_deedOf μ a b).map fun r => (r, μ) := rfl
theorem mc6 (a b c d : Int32) (μ : MS) : mCall 6 a b c d μ = m_ends μ a := rfl
theorem mc7 (a b c d : Int32) (μ : MS) : mCall 7 a b c d μ = m_anew 1000 μ := rfl
theorem mc8 (a b c d : Int32) (μ : MS) : mCall 8 a b c d μ = (m_state μ a).map fun r => (r, μ) := rfl
theorem mc9 (a b c d : Int32) (μ : MS) : mCall 9 a b c d μ = m_feed 1000 μ (lF a b) c := rfl
theorem mc10 (a b c d : Int32) (μ : MS) : mCall 10 a b c d μ = m_rules 1000 μ := rfl
theorem mc11 (a b c d : Int32) (μ : MS) : mCall 11 a b c d μ = m_year 1000 μ := rfl
theorem mc12 (a b c d : Int32) (μ : MS) : mCall 12 a b c d μ = (m_standing 1000 μ a).map fun r => (r, μ) := rfl
theorem mc13 (a b c d : Int32) (μ : MS) : mCall 13 a b c d μ = m_leaves 1000 μ a := rfl
theorem mc14 (a b c d : Int32) (μ : MS) : mCall 14 a b c d μ = m_on 1000 μ a := rfl
theorem mc15 (a b c d : Int32) (μ : MS) : mCall 15 a b c d μ = m_until 1000 μ a := rfl
theorem mc16 (a b c d : Int32) (μ : MS) : mCall 16 a b c d μ = m_overdue 1000 μ := rfl
theorem mc17 (a b c d : Int32) (μ : MS) : mCall 17 a b c d μ = m_falls 1000 μ a := rfl
theorem mc18 (a b c d : Int32) (μ : MS) : mCall 18 a b c d μ = m_graceFor 1000 μ a := rfl
theorem mc19 (a b c d : Int32) (μ : MS) : mCall 19 a b c d μ = m_strengthFor 1000 μ a := rfl
theorem mc20 (a b c d : Int32) (μ : MS) : mCall 20 a b c d μ = m_owe μ a b c := rfl
theorem mc21 (a b c d : Int32) (μ : MS) : mCall 21 a b c d μ = (m_owes μ a b).map fun r => (r, μ) := rfl
theorem mc22 (a b c d : Int32) (μ : MS) : mCall 22 a b c d μ = (m_net 1000 μ a).map fun r => (r, μ) := rfl
theorem mc23 (a b c d : Int32) (μ : MS) : mCall 23 a b c d μ = (m_ring 1000 μ a).map fun r => (r, μ) := rfl
theorem mc24 (a b c d : Int32) (μ : MS) : mCall 24 a b c d μ = m_payments 1000 μ := rfl
theorem mc25 (a b c d : Int32) (μ : MS) : mCall 25 a b c d μ = m_best 1000 μ a := rfl
theorem mc26 (a b c d : Int32) (μ : MS) : mCall 26 a b c d μ = m_ith 1000 μ a b := rfl
theorem mc27 (a b c d : Int32) (μ : MS) : mCall 27 a b c d μ = m_ways 1000 μ a := rfl
theorem mc28 (a b c d : Int32) (μ : MS) : mCall 28 a b c d μ = m_life 1000 μ a b := rfl
theorem mc29 (a b c d : Int32) (μ : MS) : mCall 29 a b c d μ = m_bars 1000 μ a b := rfl
theorem mc30 (a b c d : Int32) (μ : MS) : mCall 30 a b c d μ = m_game 1000 μ a := rfl
theorem mc31 (a b c d : Int32) (μ : MS) : mCall 31 a b c d μ = m_play 1000 μ a := rfl
theorem mc32 (a b c d : Int32) (μ : MS) : mCall 32 a b c d μ = m_report μ a b c d := rfl
theorem mc33 (a b c d : Int32) (μ : MS) : mCall 33 a b c d μ = m_forget μ := rfl
theorem mc34 (a b c d : Int32) (μ : MS) : mCall 34 a b c d μ = m_span 1000 μ a := rfl
theorem mc35 (a b c d : Int32) (μ : MS) : mCall 35 a b c d μ = m_liar 1000 μ := rfl
theorem mc36 (a b c d : Int32) (μ : MS) : mCall 36 a b c d μ = m_seed μ a := rfl
theorem mc37 (a b c d : Int32) (μ : MS) : mCall 37 a b c d μ = m_lot 1000 μ := rfl
theorem mc38 (a b c d : Int32) (μ : MS) : mCall 38 a b c d μ = m_often 1000 μ a b := rfl
theorem mc39 (a b c d : Int32) (μ : MS) : mCall 39 a b c d μ = m_prove 1000 μ a := rfl
theorem mc40 (a b c d : Int32) (μ : MS) : mCall 40 a b c d μ = (m_row μ a b).map fun r => (r, μ) := rfl
theorem mc41 (a b c d : Int32) (μ : MS) : mCall 41 a b c d μ = m_alterRow μ a b c := rfl
theorem mc42 (a b c d : Int32) (μ : MS) : mCall 42 a b c d μ = m_judge 1000 μ := rfl
theorem mc43 (a b c d : Int32) (μ : MS) : mCall 43 a b c d μ = m_sheet 1000 μ a b c := rfl
theorem mc44 (a b c d : Int32) (μ : MS) : mCall 44 a b c d μ = m_write μ a b c := rfl
theorem mc45 (a b c d : Int32) (μ : MS) : mCall 45 a b c d μ = (m_item μ a b c).map fun r => (r, μ) := rfl
theorem mc46 (a b c d : Int32) (μ : MS) : mCall 46 a b c d μ = m_goAll 1000 μ a b c := rfl
theorem mc47 (a b c d : Int32) (μ : MS) : mCall 47 a b c d μ = m_wouldBe 1000 μ a b c := rfl
theorem mc48 (a b c d : Int32) (μ : MS) : mCall 48 a b c d μ = m_shelf μ a b c := rfl
theorem mc49 (a b c d : Int32) (μ : MS) : mCall 49 a b c d μ = (m_taken μ a b).map fun r => (r, μ) := rfl
theorem mc50 (a b c d : Int32) (μ : MS) : mCall 50 a b c d μ = m_act μ a b c := rfl
theorem mc51 (a b c d : Int32) (μ : MS) : mCall 51 a b c d μ = (m_trace μ a).map fun r => (r, μ) := rfl
theorem mc52 (a b c d : Int32) (μ : MS) : mCall 52 a b c d μ = (m_many 1000 μ a).map fun r => (r, μ) := rfl
theorem mc53 (a b c d : Int32) (μ : MS) : mCall 53 a b c d μ = m_keep 1000 μ := rfl
theorem mc54 (a b c d : Int32) (μ : MS) : mCall 54 a b c d μ = m_again 1000 μ := rfl
