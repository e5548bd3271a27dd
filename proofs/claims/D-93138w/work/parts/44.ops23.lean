set_option maxRecDepth 100000
set_option maxHeartbeats 4000000
/-! PLAIN LAW, operations 23: loss -/
theorem p_loss {t : Nat} (ht : t ≤ 64) {s : xS} {rd : xRd} {J : mJ} {I Im : mI} {Jm : mJ} (h : Rel t s rd J I Im Jm) : x_X0_loss s rd J I (fun r I' => m_loss Im Jm (RelQ (t + 1) s rd J I' r)) := by
  obtain ⟨h0, σ, fz, hS⟩ := h.opn
  obtain ⟨rn, st, e1, e2, e3, e4⟩ := hS.mst
  unfold x_X0_loss
  refine x_all_s hS.1.1 hS.2.1.xP e1 (by omega) tS_10 tA_10 hS.1.stok hS.2.1.tr (fun I' q1 q2 => ?_)
  have hS' := hS.most q1 q2.xr (by omega) mso.refl e3 (by omega)
  refine x_runs_s hS'.1 hS'.2.1 hS'.2.2.2.2.2.2.1 (fun I3 v fI hRun => ?_)
  unfold m_loss m_best
  rw [hS.2.2.1.min, hS.2.2.1.at_, hS.2.2.1.food]
  refine m_most_s hS.1.1 (by omega) e3 hS.1.stok (fun Im' z1 z2 => ?_)
  have hS2 := hS.most q1 q2.xr (by omega) z1 z2 (by omega)
  exact hRun Im' Jm _ hS2.2.2.1 (fun Im2 g => ⟨rfl, (hS2.cls (by omega)).ask fI g (Nat.le_refl _)⟩)
