/-! a switch over 0..4 -/
theorem tb_out5 {x : Int32} (c0 : ¬ x = 0) (c1 : ¬ x = 1) (c2 : ¬ x = 2) (c3 : ¬ x = 3) (c4 : ¬ x = 4) : x.toInt < 0 ∨ 4 < x.toInt := tb_aux 5 (by decide) (fun k hk => by match k, hk with | 0, _ => exact c0 | 1, _ => exact c1 | 2, _ => exact c2 | 3, _ => exact c3 | 4, _ => exact c4)
