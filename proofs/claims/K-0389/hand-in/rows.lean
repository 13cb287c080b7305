section
/-- the two objects hold the same three addresses and the same two flags (in another order of fields); each flag is 0 or 1 -/
def i_Rel (_ : Nat) (u : SX) (v : SY) : Prop :=
  ∃ (pc npc cur : Int64) (slot armed : Int32), u = (pc, npc, cur, slot, armed) ∧ v = (cur, pc, npc, slot, armed) ∧ (slot = 0 ∨ slot = 1) ∧ (armed = 0 ∨ armed = 1)
theorem i_up {k : Nat} {u : SX} {v : SY} (h : i_Rel k u v) : i_Rel (k + 3) u v := h
theorem i_vc0 (k0 : Int64) : wpX_init (fun u => wpY_init (fun v => i_Rel 2 u v) k0) k0 := by
  intro p ep n en c ec
  intro p' ep' c' ec' n' en'
  cases ep'.trans ep.symm
  cases ec'.trans ec.symm
  cases en'.trans en.symm
  exact ⟨_, _, _, _, _, rfl, rfl, Or.inl rfl, Or.inl rfl⟩
/-- a flag that is 0 or 1 is stored, and answered, as it is -/
theorem ds_nar {x : Int32} (h : x = 0 ∨ x = 1) : narrow .boolean (.int x) = .int x := by
  rcases h with h | h
  · rw [h]; rfl
  · rw [h]; rfl
theorem ds_fit {x : Int32} (h : x = 0 ∨ x = 1) : fits .boolean (.int x) = true := by
  rcases h with h | h
  · rw [h]; decide
  · rw [h]; decide
theorem i_vc_step {k : Nat} {u : SX} {v : SY} (I : i_Rel k u v) (hk : k + 3 ≤ 1538) : wpX_step (fun r u' => wpY_step (fun r' v' => r' = r ∧ i_Rel (k + 3) u' v') v) u := by
  obtain ⟨pc, npc, cur, slot, armed, rfl, rfl, hs, ha⟩ := I
  refine ⟨ds_nar ha, ds_fit ha, fun n en => ?_⟩
  refine ⟨ds_nar ha, ds_fit ha, fun n' en' => ?_⟩
  cases en'.trans en.symm
  exact ⟨rfl, _, _, _, _, _, rfl, rfl, ha, Or.inl rfl⟩
theorem i_vc_branch {k : Nat} {u : SX} {v : SY} (I : i_Rel k u v) (hk : k + 3 ≤ 1538) (a0 : Int64) : wpX_branch (fun r u' => wpY_branch (fun r' v' => r' = r ∧ i_Rel (k + 3) u' v') v a0) u a0 := by
  obtain ⟨pc, npc, cur, slot, armed, rfl, rfl, hs, ha⟩ := I
  by_cases h : slot = 0
  · by_cases z : (a0 &&& 3) = 0
    · exact br_t h (br_t z (br_t h (br_t z ⟨rfl, _, _, _, _, _, rfl, rfl, hs, Or.inr rfl⟩)))
    · exact br_t h (br_f z (br_t h (br_f z ⟨rfl, _, _, _, _, _, rfl, rfl, hs, ha⟩)))
  · exact br_f h (br_f h ⟨rfl, _, _, _, _, _, rfl, rfl, hs, ha⟩)
theorem i_vc_epc {k : Nat} {u : SX} {v : SY} (I : i_Rel k u v) (hk : k + 3 ≤ 1538) : wpX_epc (fun r => wpY_epc (fun r' => r' = r ∧ i_Rel (k + 3) u v) v) u := by
  obtain ⟨pc, npc, cur, slot, armed, rfl, rfl, hs, ha⟩ := I
  by_cases h : slot = 0
  · exact br_t h (br_t h ⟨rfl, _, _, _, _, _, rfl, rfl, hs, ha⟩)
  · exact br_f h (br_f h ⟨rfl, _, _, _, _, _, rfl, rfl, hs, ha⟩)
theorem i_vc_inSlot {k : Nat} {u : SX} {v : SY} (I : i_Rel k u v) (hk : k + 3 ≤ 1538) : wpX_inSlot (fun r => wpY_inSlot (fun r' => r' = r ∧ i_Rel (k + 3) u v) v) u := by
  obtain ⟨pc, npc, cur, slot, armed, rfl, rfl, hs, ha⟩ := I
  exact ⟨ds_nar hs, ds_nar hs, rfl, _, _, _, _, _, rfl, rfl, hs, ha⟩
end
