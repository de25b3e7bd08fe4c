/-- TowerComputer$ChipReader.pins(LTowerComputer$Chip;)V -/
def m_4_15 : List am_B := [
  (false, [(.iconst 1, []), (.istore_n 2, []), (.nop, [1])]),
  (true, [(.iload_n 2, []), (.ifCond .eq 141, [9]), (.aload_n 0, []), (.aload_n 0, []), (.invokevirtual 112, [1, 4, 2, 1, 1, 0, 1]), (.iconst 2, []), (.if_icmp .ne 7, [2]), (.iconst 1, []), (.goto 4, [3])]),
  (false, [(.iconst 0, []), (.nop, [3])]),
  (false, [(.invokevirtual 122, [1, 4, 7, 2, 0, 0, 1]), (.aload_n 0, []), (.aload_n 1, []), (.getfield 72, [3, 2, 0]), (.bipush 12, []), (.if_icmp .ge 7, [4]), (.iconst 1, []), (.goto 4, [5])]),
  (false, [(.iconst 0, []), (.nop, [5])]),
  (true, [(.iconst 2, []), (.aload_n 0, []), (.invokevirtual 104, [1, 4, 4, 1, 1, 0, 1]), (.invokevirtual 108, [1, 4, 6, 4, 0, 0, 1]), (.aload_n 1, []), (.getfield 75, [3, 6, 1]), (.aload_n 1, []), (.getfield 72, [3, 2, 0]), (.aload_n 0, []), (.invokevirtual 115, [1, 4, 3, 1, 1, 0, 1]), (.iastore, []), (.aload_n 1, []), (.getfield 78, [3, 7, 1]), (.aload_n 1, []), (.getfield 72, [3, 2, 0]), (.aload_n 0, []), (.getfield 85, [4, 5, 0]), (.iastore, []), (.aload_n 1, []), (.dup, []), (.getfield 72, [3, 2, 0]), (.iconst 1, []), (.iadd, []), (.putfield 72, [3, 2, 0]), (.aload_n 0, []), (.invokevirtual 126, [1, 4, 10, 1, 0, 0, 1]), (.aload_n 0, []), (.bipush 91, []), (.invokevirtual 118, [1, 4, 8, 2, 1, 0, 1]), (.ifCond .eq 34, [8]), (.aload_n 0, []), (.invokevirtual 126, [1, 4, 10, 1, 0, 0, 1]), (.aload_n 0, []), (.aload_n 0, []), (.invokevirtual 112, [1, 4, 2, 1, 1, 0, 1]), (.iconst 3, []), (.if_icmp .ne 7, [6]), (.iconst 1, []), (.goto 4, [7])]),
  (false, [(.iconst 0, []), (.nop, [7])]),
  (true, [(.invokevirtual 122, [1, 4, 7, 2, 0, 0, 1]), (.aload_n 0, []), (.invokevirtual 126, [1, 4, 10, 1, 0, 0, 1]), (.aload_n 0, []), (.bipush 93, []), (.invokevirtual 153, [1, 4, 11, 2, 0, 0, 1]), (.nop, [8])]),
  (false, [(.aload_n 0, []), (.bipush 44, []), (.invokevirtual 118, [1, 4, 8, 2, 1, 0, 1]), (.istore_n 2, []), (.iload_n 2, []), (.ifCond .eq (-132), [1]), (.aload_n 0, []), (.invokevirtual 126, [1, 4, 10, 1, 0, 0, 1]), (.goto (-139), [1])]),
  (false, [(.aload_n 0, []), (.bipush 59, []), (.invokevirtual 153, [1, 4, 11, 2, 0, 0, 1]), (.return_, [])])]
/-- TowerComputer$ChipReader.part(LTowerComputer$Chip;)V -/
def m_4_16 : List am_B := [
  (false, [(.aload_n 0, []), (.aload_n 0, []), (.invokevirtual 112, [1, 4, 2, 1, 1, 0, 1]), (.iconst 2, []), (.if_icmp .ne 7, [1]), (.iconst 1, []), (.goto 4, [2])]),
  (false, [(.iconst 0, []), (.nop, [2])]),
  (false, [(.invokevirtual 122, [1, 4, 7, 2, 0, 0, 1]), (.aload_n 0, []), (.aload_n 1, []), (.getfield 162, [3, 4, 0]), (.bipush 24, []), (.if_icmp .ge 7, [3]), (.iconst 1, []), (.goto 4, [4])]),
  (false, [(.iconst 0, []), (.nop, [4])]),
  (true, [(.iconst 2, []), (.aload_n 0, []), (.invokevirtual 104, [1, 4, 4, 1, 1, 0, 1]), (.invokevirtual 108, [1, 4, 6, 4, 0, 0, 1]), (.aload_n 1, []), (.getfield 165, [3, 8, 1]), (.aload_n 1, []), (.getfield 162, [3, 4, 0]), (.aload_n 0, []), (.getfield 85, [4, 5, 0]), (.iastore, []), (.aload_n 1, []), (.dup, []), (.getfield 162, [3, 4, 0]), (.iconst 1, []), (.iadd, []), (.putfield 162, [3, 4, 0]), (.aload_n 0, []), (.invokevirtual 126, [1, 4, 10, 1, 0, 0, 1]), (.aload_n 0, []), (.bipush 40, []), (.invokevirtual 153, [1, 4, 11, 2, 0, 0, 1]), (.iconst 1, []), (.istore_n 2, []), (.nop, [5])]),
  (true, [(.iload_n 2, []), (.ifCond .eq 105, [13]), (.aload_n 0, []), (.aload_n 0, []), (.invokevirtual 112, [1, 4, 2, 1, 1, 0, 1]), (.iconst 2, []), (.if_icmp .ne 7, [6]), (.iconst 1, []), (.goto 4, [7])]),
  (false, [(.iconst 0, []), (.nop, [7])]),
  (true, [(.invokevirtual 122, [1, 4, 7, 2, 0, 0, 1]), (.aload_n 0, []), (.invokevirtual 126, [1, 4, 10, 1, 0, 0, 1]), (.aload_n 0, []), (.invokevirtual 168, [1, 4, 18, 1, 0, 0, 1]), (.aload_n 0, []), (.bipush 61, []), (.invokevirtual 153, [1, 4, 11, 2, 0, 0, 1]), (.aload_n 0, []), (.iconst 4, []), (.invokevirtual 129, [1, 4, 9, 2, 1, 0, 1]), (.ifCond .ne 11, [8]), (.aload_n 0, []), (.iconst 5, []), (.invokevirtual 129, [1, 4, 9, 2, 1, 0, 1]), (.ifCond .eq 10, [9]), (.nop, [8])]),
  (false, [(.aload_n 0, []), (.invokevirtual 126, [1, 4, 10, 1, 0, 0, 1]), (.goto 33, [12])]),
  (false, [(.aload_n 0, []), (.aload_n 0, []), (.invokevirtual 112, [1, 4, 2, 1, 1, 0, 1]), (.iconst 2, []), (.if_icmp .ne 7, [10]), (.iconst 1, []), (.goto 4, [11])]),
  (false, [(.iconst 0, []), (.nop, [11])]),
  (true, [(.invokevirtual 122, [1, 4, 7, 2, 0, 0, 1]), (.aload_n 0, []), (.aload_n 1, []), (.invokevirtual 171, [1, 4, 17, 2, 0, 0, 1]), (.aload_n 0, []), (.invokevirtual 126, [1, 4, 10, 1, 0, 0, 1]), (.aload_n 0, []), (.invokevirtual 168, [1, 4, 18, 1, 0, 0, 1]), (.nop, [12])]),
  (false, [(.aload_n 0, []), (.bipush 44, []), (.invokevirtual 118, [1, 4, 8, 2, 1, 0, 1]), (.istore_n 2, []), (.iload_n 2, []), (.ifCond .eq (-96), [5]), (.aload_n 0, []), (.invokevirtual 126, [1, 4, 10, 1, 0, 0, 1]), (.goto (-103), [5])]),
  (false, [(.aload_n 0, []), (.bipush 41, []), (.invokevirtual 153, [1, 4, 11, 2, 0, 0, 1]), (.aload_n 0, []), (.bipush 59, []), (.invokevirtual 153, [1, 4, 11, 2, 0, 0, 1]), (.return_, [])])]
/-- TowerComputer$ChipReader.inner(LTowerComputer$Chip;)V -/
def m_4_17 : List am_B := [
  (false, [(.aload_n 1, []), (.aload_n 0, []), (.invokevirtual 115, [1, 4, 3, 1, 1, 0, 1]), (.invokevirtual 174, [1, 3, 2, 2, 1, 0, 1]), (.iconst (-1), []), (.if_icmp .ne 15, [1]), (.aload_n 1, []), (.aload_n 0, []), (.invokevirtual 115, [1, 4, 3, 1, 1, 0, 1]), (.invokevirtual 178, [1, 3, 3, 2, 1, 0, 1]), (.iconst (-1), []), (.if_icmp .eq 4, [2]), (.nop, [1])]),
  (false, [(.return_, [])]),
  (false, [(.aload_n 0, []), (.aload_n 1, []), (.getfield 181, [3, 5, 0]), (.bipush 100, []), (.if_icmp .ge 7, [3]), (.iconst 1, []), (.goto 4, [4])]),
  (false, [(.iconst 0, []), (.nop, [4])]),
  (true, [(.iconst 2, []), (.aload_n 0, []), (.invokevirtual 104, [1, 4, 4, 1, 1, 0, 1]), (.invokevirtual 108, [1, 4, 6, 4, 0, 0, 1]), (.aload_n 1, []), (.getfield 183, [3, 9, 1]), (.aload_n 1, []), (.getfield 181, [3, 5, 0]), (.aload_n 0, []), (.invokevirtual 115, [1, 4, 3, 1, 1, 0, 1]), (.iastore, []), (.aload_n 1, []), (.getfield 186, [3, 10, 1]), (.aload_n 1, []), (.getfield 181, [3, 5, 0]), (.iconst 0, []), (.iastore, []), (.aload_n 1, []), (.getfield 189, [3, 11, 1]), (.aload_n 1, []), (.getfield 181, [3, 5, 0]), (.iconst 0, []), (.bastore, [4]), (.aload_n 1, []), (.dup, []), (.getfield 181, [3, 5, 0]), (.iconst 1, []), (.iadd, []), (.putfield 181, [3, 5, 0]), (.return_, [])])]
/-- TowerComputer$ChipReader.range()V -/
def m_4_18 : List am_B := [
  (false, [(.aload_n 0, []), (.bipush 91, []), (.invokevirtual 118, [1, 4, 8, 2, 1, 0, 1]), (.ifCond .ne 4, [1]), (.return_, [])]),
  (false, [(.aload_n 0, []), (.invokevirtual 126, [1, 4, 10, 1, 0, 0, 1]), (.aload_n 0, []), (.aload_n 0, []), (.invokevirtual 112, [1, 4, 2, 1, 1, 0, 1]), (.iconst 3, []), (.if_icmp .ne 7, [2]), (.iconst 1, []), (.goto 4, [3])]),
  (false, [(.iconst 0, []), (.nop, [3])]),
  (true, [(.invokevirtual 122, [1, 4, 7, 2, 0, 0, 1]), (.aload_n 0, []), (.invokevirtual 126, [1, 4, 10, 1, 0, 0, 1]), (.aload_n 0, []), (.sipush 256, []), (.invokevirtual 118, [1, 4, 8, 2, 1, 0, 1]), (.ifCond .eq 28, [6]), (.aload_n 0, []), (.invokevirtual 126, [1, 4, 10, 1, 0, 0, 1]), (.aload_n 0, []), (.aload_n 0, []), (.invokevirtual 112, [1, 4, 2, 1, 1, 0, 1]), (.iconst 3, []), (.if_icmp .ne 7, [4]), (.iconst 1, []), (.goto 4, [5])]),
  (false, [(.iconst 0, []), (.nop, [5])]),
  (false, [(.invokevirtual 122, [1, 4, 7, 2, 0, 0, 1]), (.aload_n 0, []), (.invokevirtual 126, [1, 4, 10, 1, 0, 0, 1]), (.nop, [6])]),
  (false, [(.aload_n 0, []), (.bipush 93, []), (.invokevirtual 153, [1, 4, 11, 2, 0, 0, 1]), (.return_, [])])]
/-- TowerComputer$ChipReader.find(I)LTowerComputer$Chip; -/
def m_4_19 : List am_B := [
  (false, [(.iload_n 1, []), (.bipush 6, []), (.if_icmp .ne 8, [1]), (.aload_n 0, []), (.getfield 18, [4, 2, 1]), (.areturn, [])]),
  (false, [(.iload_n 1, []), (.bipush 7, []), (.if_icmp .ne 8, [2]), (.aload_n 0, []), (.getfield 22, [4, 3, 1]), (.areturn, [])]),
  (false, [(.iconst 0, []), (.istore_n 2, []), (.nop, [3])]),
  (true, [(.iload_n 2, []), (.aload_n 0, []), (.getfield 136, [4, 6, 0]), (.if_icmp .ge 29, [5]), (.aload_n 0, []), (.getfield 13, [4, 1, 1]), (.iload_n 2, []), (.aaload, [12]), (.getfield 192, [3, 0, 0]), (.iload_n 1, []), (.if_icmp .ne 10, [4]), (.aload_n 0, []), (.getfield 13, [4, 1, 1]), (.iload_n 2, []), (.aaload, [12]), (.areturn, [])]),
  (false, [(.iinc 2 1, []), (.goto (-31), [3])]),
  (false, [(.aconst_null, []), (.areturn, [])])]
/-- TowerComputer$ChipReader.look(LTowerComputer$Chip;I)V -/
def m_4_20 : List am_B := [
  (false, [(.iload_n 2, []), (.ifCond .ne 29, [2]), (.iconst 0, []), (.istore_n 3, []), (.nop, [1])]),
  (true, [(.iload_n 3, []), (.aload_n 0, []), (.getfield 136, [4, 6, 0]), (.if_icmp .ge 19, [2]), (.aload_n 0, []), (.aload_n 0, []), (.getfield 13, [4, 1, 1]), (.iload_n 3, []), (.aaload, [12]), (.invokevirtual 195, [1, 4, 21, 2, 0, 0, 1]), (.iinc 3 1, []), (.goto (-21), [1])]),
  (true, [(.aload_n 0, []), (.aload_n 0, []), (.aload_n 1, []), (.getfield 192, [3, 0, 0]), (.invokevirtual 198, [1, 4, 19, 2, 3, 0, 1]), (.aload_n 1, []), (.if_acmp .ne 7, [3]), (.iconst 1, []), (.goto 4, [4])]),
  (false, [(.iconst 0, []), (.nop, [4])]),
  (false, [(.iconst 3, []), (.aload_n 1, []), (.getfield 149, [3, 1, 0]), (.invokevirtual 108, [1, 4, 6, 4, 0, 0, 1]), (.iconst 0, []), (.istore_n 3, []), (.nop, [5])]),
  (true, [(.iload_n 3, []), (.aload_n 1, []), (.getfield 72, [3, 2, 0]), (.if_icmp .ge 15, [6]), (.aload_n 0, []), (.aload_n 1, []), (.iload_n 3, []), (.invokevirtual 202, [1, 4, 24, 3, 0, 0, 1]), (.iinc 3 1, []), (.goto (-17), [5])]),
  (false, [(.iconst 0, []), (.istore_n 3, []), (.nop, [7])]),
  (true, [(.iload_n 3, []), (.aload_n 1, []), (.getfield 162, [3, 4, 0]), (.if_icmp .ge 20, [8]), (.aload_n 0, []), (.aload_n 1, []), (.aload_n 1, []), (.getfield 165, [3, 8, 1]), (.iload_n 3, []), (.iaload, []), (.invokevirtual 205, [1, 4, 27, 3, 0, 0, 1]), (.iinc 3 1, []), (.goto (-22), [7])]),
  (false, [(.iconst 0, []), (.istore_n 3, []), (.nop, [9])]),
  (true, [(.iload_n 3, []), (.aload_n 1, []), (.getfield 72, [3, 2, 0]), (.if_icmp .ge 16, [10]), (.aload_n 0, []), (.getfield 39, [4, 12, 1]), (.iload_n 3, []), (.iconst 0, []), (.iastore, []), (.iinc 3 1, []), (.goto (-18), [9])]),
  (false, [(.iconst 0, []), (.istore_n 3, []), (.nop, [11])]),
  (true, [(.iload_n 3, []), (.aload_n 1, []), (.getfield 181, [3, 5, 0]), (.if_icmp .ge 16, [12]), (.aload_n 1, []), (.getfield 189, [3, 11, 1]), (.iload_n 3, []), (.iconst 0, []), (.bastore, [4]), (.iinc 3 1, []), (.goto (-18), [11])]),
  (false, [(.iconst 0, []), (.istore_n 3, []), (.nop, [13])]),
  (true, [(.iload_n 3, []), (.aload_n 1, []), (.getfield 162, [3, 4, 0]), (.if_icmp .ge 20, [14]), (.aload_n 0, []), (.aload_n 1, []), (.aload_n 1, []), (.getfield 165, [3, 8, 1]), (.iload_n 3, []), (.iaload, []), (.invokevirtual 208, [1, 4, 28, 3, 0, 0, 1]), (.iinc 3 1, []), (.goto (-22), [13])]),
  (false, [(.return_, [])])]
/-- TowerComputer$ChipReader.heads(LTowerComputer$Chip;)V -/
def m_4_21 : List am_B := [
  (false, [(.iconst 0, []), (.istore_n 2, []), (.nop, [1])]),
  (true, [(.iload_n 2, []), (.aload_n 1, []), (.getfield 72, [3, 2, 0]), (.if_icmp .ge 89, [4]), (.aload_n 1, []), (.getfield 78, [3, 7, 1]), (.iload_n 2, []), (.iaload, []), (.istore_n 3, []), (.aload_n 0, []), (.getfield 44, [4, 13, 1]), (.aload_n 0, []), (.aload_n 1, []), (.invokevirtual 211, [1, 4, 23, 2, 1, 0, 1]), (.aaload, [13]), (.iload_n 2, []), (.iload_n 3, []), (.iastore, []), (.aload_n 1, []), (.getfield 78, [3, 7, 1]), (.iload_n 2, []), (.aload_n 0, []), (.iload_n 3, []), (.invokevirtual 215, [1, 4, 22, 2, 1, 0, 1]), (.ifCond .eq 48, [2]), (.aload_n 0, []), (.getfield 56, [4, 0, 1]), (.getfield 88, [5, 3, 1]), (.iload_n 3, []), (.iconst 2, []), (.iadd, []), (.saload, []), (.iconst 1, []), (.if_icmp .lt 33, [2]), (.aload_n 0, []), (.getfield 56, [4, 0, 1]), (.getfield 88, [5, 3, 1]), (.iload_n 3, []), (.iconst 2, []), (.iadd, []), (.saload, []), (.bipush 16, []), (.if_icmp .gt 17, [2]), (.aload_n 0, []), (.getfield 56, [4, 0, 1]), (.getfield 88, [5, 3, 1]), (.iload_n 3, []), (.iconst 2, []), (.iadd, []), (.saload, []), (.goto 4, [3])]),
  (false, [(.iconst 1, []), (.nop, [3])]),
  (false, [(.iastore, []), (.iinc 2 1, []), (.goto (-91), [1])]),
  (false, [(.return_, [])])]
/-- TowerComputer$ChipReader.isTold(I)Z -/
def m_4_22 : List am_B := [
  (false, [(.aload_n 0, []), (.getfield 56, [4, 0, 1]), (.getfield 81, [5, 2, 1]), (.iload_n 1, []), (.iconst 1, []), (.iadd, []), (.baload, [2]), (.iconst 4, []), (.if_icmp .ne 23, [1]), (.aload_n 0, []), (.getfield 56, [4, 0, 1]), (.getfield 88, [5, 3, 1]), (.iload_n 1, []), (.iconst 1, []), (.iadd, []), (.saload, []), (.bipush 91, []), (.if_icmp .ne 7, [1]), (.iconst 1, []), (.goto 4, [2])]),
  (false, [(.iconst 0, []), (.nop, [2])]),
  (false, [(.ireturn, [1])])]
/-- TowerComputer$ChipReader.indexOf(LTowerComputer$Chip;)I -/
def m_4_23 : List am_B := [
  (false, [(.iconst 0, []), (.istore_n 2, []), (.nop, [1])]),
  (true, [(.aload_n 0, []), (.getfield 13, [4, 1, 1]), (.iload_n 2, []), (.aaload, [12]), (.aload_n 1, []), (.if_acmp .eq 9, [2]), (.iinc 2 1, []), (.goto (-13), [1])]),
  (false, [(.iload_n 2, []), (.ireturn, [])])]
/-- TowerComputer$ChipReader.headFault(LTowerComputer$Chip;I)V -/
def m_4_24 : List am_B := [
  (false, [(.aload_n 0, []), (.getfield 44, [4, 13, 1]), (.aload_n 0, []), (.aload_n 1, []), (.invokevirtual 211, [1, 4, 23, 2, 1, 0, 1]), (.aaload, [13]), (.iload_n 2, []), (.iaload, []), (.istore_n 3, []), (.aload_n 0, []), (.aload_n 1, []), (.aload_n 1, []), (.getfield 75, [3, 6, 1]), (.iload_n 2, []), (.iaload, []), (.invokevirtual 174, [1, 3, 2, 2, 1, 0, 1]), (.iload_n 2, []), (.if_icmp .ne 7, [1]), (.iconst 1, []), (.goto 4, [2])]),
  (false, [(.iconst 0, []), (.nop, [2])]),
  (true, [(.iconst 3, []), (.aload_n 0, []), (.getfield 56, [4, 0, 1]), (.getfield 92, [5, 4, 1]), (.iload_n 3, []), (.iaload, []), (.invokevirtual 108, [1, 4, 6, 4, 0, 0, 1]), (.aload_n 0, []), (.aload_n 0, []), (.iload_n 3, []), (.invokevirtual 215, [1, 4, 22, 2, 1, 0, 1]), (.ifCond .eq 34, [3]), (.aload_n 0, []), (.getfield 56, [4, 0, 1]), (.getfield 88, [5, 3, 1]), (.iload_n 3, []), (.iconst 2, []), (.iadd, []), (.saload, []), (.iconst 1, []), (.if_icmp .lt 23, [4]), (.aload_n 0, []), (.getfield 56, [4, 0, 1]), (.getfield 88, [5, 3, 1]), (.iload_n 3, []), (.iconst 2, []), (.iadd, []), (.saload, []), (.bipush 16, []), (.if_icmp .gt 7, [4]), (.nop, [3])]),
  (false, [(.iconst 1, []), (.goto 4, [5])]),
  (false, [(.iconst 0, []), (.nop, [5])]),
  (false, [(.iconst 5, []), (.aload_n 0, []), (.getfield 56, [4, 0, 1]), (.getfield 92, [5, 4, 1]), (.iload_n 3, []), (.iconst 2, []), (.iadd, []), (.iaload, []), (.invokevirtual 108, [1, 4, 6, 4, 0, 0, 1]), (.return_, [])])]
/-- TowerComputer$ChipReader.bits(I)Z -/
def m_4_25 : List am_B := [
  (false, [(.aload_n 0, []), (.iconst 0, []), (.putfield 218, [4, 9, 0]), (.aload_n 0, []), (.iload_n 1, []), (.iconst 1, []), (.isub, []), (.putfield 221, [4, 10, 0]), (.aload_n 0, []), (.bipush 91, []), (.invokevirtual 118, [1, 4, 8, 2, 1, 0, 1]), (.ifCond .ne 5, [1]), (.iconst 1, []), (.ireturn, [1])]),
  (false, [(.aload_n 0, []), (.aload_n 0, []), (.getfield 56, [4, 0, 1]), (.getfield 88, [5, 3, 1]), (.aload_n 0, []), (.getfield 85, [4, 5, 0]), (.iconst 1, []), (.iadd, []), (.saload, []), (.putfield 218, [4, 9, 0]), (.aload_n 0, []), (.getfield 56, [4, 0, 1]), (.getfield 81, [5, 2, 1]), (.aload_n 0, []), (.getfield 85, [4, 5, 0]), (.iconst 2, []), (.iadd, []), (.baload, [2]), (.iconst 4, []), (.if_icmp .ne 27, [2]), (.aload_n 0, []), (.getfield 56, [4, 0, 1]), (.getfield 88, [5, 3, 1]), (.aload_n 0, []), (.getfield 85, [4, 5, 0]), (.iconst 2, []), (.iadd, []), (.saload, []), (.sipush 256, []), (.if_icmp .ne 7, [2]), (.iconst 1, []), (.goto 4, [3])]),
  (false, [(.iconst 0, []), (.nop, [3])]),
  (true, [(.istore_n 2, []), (.aload_n 0, []), (.iload_n 2, []), (.ifCond .eq 20, [4]), (.aload_n 0, []), (.getfield 56, [4, 0, 1]), (.getfield 88, [5, 3, 1]), (.aload_n 0, []), (.getfield 85, [4, 5, 0]), (.iconst 3, []), (.iadd, []), (.saload, []), (.goto 7, [5])]),
  (false, [(.aload_n 0, []), (.getfield 218, [4, 9, 0]), (.nop, [5])]),
  (false, [(.putfield 221, [4, 10, 0]), (.aload_n 0, []), (.dup, []), (.getfield 85, [4, 5, 0]), (.iload_n 2, []), (.ifCond .eq 7, [6]), (.iconst 5, []), (.goto 4, [7])]),
  (false, [(.iconst 3, []), (.nop, [7])]),
  (true, [(.iadd, []), (.putfield 85, [4, 5, 0]), (.aload_n 0, []), (.getfield 218, [4, 9, 0]), (.aload_n 0, []), (.getfield 221, [4, 10, 0]), (.if_icmp .gt 15, [8]), (.aload_n 0, []), (.getfield 221, [4, 10, 0]), (.iload_n 1, []), (.if_icmp .ge 7, [8]), (.iconst 1, []), (.goto 4, [9])]),
  (false, [(.iconst 0, []), (.nop, [9])]),
  (false, [(.ireturn, [1])])]
/-- TowerComputer$ChipReader.pass()V -/
def m_4_26 : List am_B := [
  (false, [(.aload_n 0, []), (.bipush 91, []), (.invokevirtual 118, [1, 4, 8, 2, 1, 0, 1]), (.ifCond .ne 4, [1]), (.return_, [])]),
  (true, [(.aload_n 0, []), (.bipush 93, []), (.invokevirtual 118, [1, 4, 8, 2, 1, 0, 1]), (.ifCond .ne 16, [2]), (.aload_n 0, []), (.dup, []), (.getfield 85, [4, 5, 0]), (.iconst 1, []), (.iadd, []), (.putfield 85, [4, 5, 0]), (.goto (-19), [1])]),
  (false, [(.aload_n 0, []), (.dup, []), (.getfield 85, [4, 5, 0]), (.iconst 1, []), (.iadd, []), (.putfield 85, [4, 5, 0]), (.return_, [])])]
/-- TowerComputer$ChipReader.gives(LTowerComputer$Chip;I)V -/
def m_4_27 : List am_B := [
  (false, [(.aload_n 0, []), (.iload_n 2, []), (.putfield 85, [4, 5, 0]), (.aload_n 0, []), (.aload_n 0, []), (.invokevirtual 115, [1, 4, 3, 1, 1, 0, 1]), (.invokevirtual 198, [1, 4, 19, 2, 3, 0, 1]), (.astore_n 3, []), (.aload_n 0, []), (.dup, []), (.getfield 85, [4, 5, 0]), (.iconst 2, []), (.iadd, []), (.putfield 85, [4, 5, 0]), (.aload_n 3, []), (.ifnull 7, [1]), (.iconst 1, []), (.goto 4, [2])]),
  (false, [(.iconst 0, []), (.nop, [2])]),
  (false, [(.istore 4, []), (.nop, [3])]),
  (true, [(.iload 4, []), (.ifCond .eq 197, [15]), (.aload_n 3, []), (.aload_n 0, []), (.invokevirtual 115, [1, 4, 3, 1, 1, 0, 1]), (.invokevirtual 174, [1, 3, 2, 2, 1, 0, 1]), (.istore 5, []), (.aload_n 0, []), (.dup, []), (.getfield 85, [4, 5, 0]), (.iconst 1, []), (.iadd, []), (.putfield 85, [4, 5, 0]), (.iload 5, []), (.aload_n 3, []), (.getfield 68, [3, 3, 0]), (.if_icmp .lt 7, [4]), (.iconst 1, []), (.goto 4, [5])]),
  (false, [(.iconst 0, []), (.nop, [5])]),
  (true, [(.istore 6, []), (.iload 6, []), (.ifCond .eq 17, [6]), (.aload_n 0, []), (.aload_n 3, []), (.getfield 78, [3, 7, 1]), (.iload 5, []), (.iaload, []), (.invokevirtual 224, [1, 4, 25, 2, 1, 0, 1]), (.ifCond .eq 7, [7]), (.nop, [6])]),
  (false, [(.iconst 1, []), (.goto 4, [8])]),
  (false, [(.iconst 0, []), (.nop, [8])]),
  (false, [(.istore 7, []), (.iload 6, []), (.ifCond .ne 7, [9]), (.aload_n 0, []), (.invokevirtual 227, [1, 4, 26, 1, 0, 0, 1]), (.nop, [9])]),
  (true, [(.aload_n 0, []), (.dup, []), (.getfield 85, [4, 5, 0]), (.iconst 1, []), (.iadd, []), (.putfield 85, [4, 5, 0]), (.aload_n 0, []), (.invokevirtual 112, [1, 4, 2, 1, 1, 0, 1]), (.iconst 2, []), (.if_icmp .ne 14, [10]), (.aload_n 1, []), (.aload_n 0, []), (.invokevirtual 115, [1, 4, 3, 1, 1, 0, 1]), (.invokevirtual 178, [1, 3, 3, 2, 1, 0, 1]), (.goto 4, [11])]),
  (false, [(.iconst (-1), []), (.nop, [11])]),
  (true, [(.istore 8, []), (.iload 6, []), (.ifCond .eq 54, [14]), (.iload 8, []), (.iconst (-1), []), (.if_icmp .eq 48, [14]), (.aload_n 1, []), (.getfield 189, [3, 11, 1]), (.iload 8, []), (.baload, [4]), (.ifCond .ne 38, [14]), (.aload_n 1, []), (.getfield 189, [3, 11, 1]), (.iload 8, []), (.iconst 1, []), (.bastore, [4]), (.aload_n 1, []), (.getfield 186, [3, 10, 1]), (.iload 8, []), (.iload 7, []), (.ifCond .eq 17, [12]), (.aload_n 0, []), (.getfield 221, [4, 10, 0]), (.aload_n 0, []), (.getfield 218, [4, 9, 0]), (.isub, []), (.iconst 1, []), (.iadd, []), (.goto 4, [13])]),
  (false, [(.iconst (-1), []), (.nop, [13])]),
  (false, [(.iastore, []), (.nop, [14])]),
  (true, [(.aload_n 0, []), (.dup, []), (.getfield 85, [4, 5, 0]), (.iconst 1, []), (.iadd, []), (.putfield 85, [4, 5, 0]), (.aload_n 0, []), (.invokevirtual 227, [1, 4, 26, 1, 0, 0, 1]), (.aload_n 0, []), (.bipush 44, []), (.invokevirtual 118, [1, 4, 8, 2, 1, 0, 1]), (.istore 4, []), (.aload_n 0, []), (.dup, []), (.getfield 85, [4, 5, 0]), (.iconst 1, []), (.iadd, []), (.putfield 85, [4, 5, 0]), (.goto (-196), [3])]),
  (false, [(.return_, [])])]
/-- TowerComputer$ChipReader.links(LTowerComputer$Chip;I)V -/
def m_4_28 : List am_B := [
  (false, [(.aload_n 0, []), (.iload_n 2, []), (.putfield 85, [4, 5, 0]), (.aload_n 0, []), (.aload_n 0, []), (.invokevirtual 115, [1, 4, 3, 1, 1, 0, 1]), (.invokevirtual 198, [1, 4, 19, 2, 3, 0, 1]), (.astore_n 3, []), (.aload_n 0, []), (.aload_n 3, []), (.ifnull 7, [1]), (.iconst 1, []), (.goto 4, [2])]),
  (false, [(.iconst 0, []), (.nop, [2])]),
  (true, [(.iconst 4, []), (.aload_n 0, []), (.invokevirtual 104, [1, 4, 4, 1, 1, 0, 1]), (.invokevirtual 108, [1, 4, 6, 4, 0, 0, 1]), (.aload_n 0, []), (.dup, []), (.getfield 85, [4, 5, 0]), (.iconst 2, []), (.iadd, []), (.putfield 85, [4, 5, 0]), (.iconst 0, []), (.istore 4, []), (.nop, [3])]),
  (true, [(.iload 4, []), (.aload_n 3, []), (.getfield 72, [3, 2, 0]), (.if_icmp .ge 17, [4]), (.aload_n 0, []), (.getfield 35, [4, 11, 1]), (.iload 4, []), (.iconst 0, []), (.iastore, []), (.iinc 4 1, []), (.goto (-20), [3])]),
  (false, [(.iconst 1, []), (.istore 4, []), (.nop, [5])]),
  (true, [(.iload 4, []), (.ifCond .eq 30, [6]), (.aload_n 0, []), (.aload_n 1, []), (.aload_n 3, []), (.invokevirtual 230, [1, 4, 30, 3, 0, 0, 1]), (.aload_n 0, []), (.bipush 44, []), (.invokevirtual 118, [1, 4, 8, 2, 1, 0, 1]), (.istore 4, []), (.aload_n 0, []), (.dup, []), (.getfield 85, [4, 5, 0]), (.iconst 1, []), (.iadd, []), (.putfield 85, [4, 5, 0]), (.goto (-29), [5])]),
  (false, [(.return_, [])])]
/-- TowerComputer$ChipReader.mask(II)I -/
def m_4_29 : List am_B := [
  (false, [(.iconst 1, []), (.iload_n 1, []), (.iconst 1, []), (.iadd, []), (.ishl, []), (.iconst 1, []), (.iload_n 0, []), (.ishl, []), (.isub, []), (.ireturn, [])])]
/-- TowerComputer$ChipReader.link(LTowerComputer$Chip;LTowerComputer$Chip;)V -/
def m_4_30 : List am_B := [
  (false, [(.aload_n 0, []), (.invokevirtual 104, [1, 4, 4, 1, 1, 0, 1]), (.istore_n 3, []), (.aload_n 2, []), (.aload_n 0, []), (.invokevirtual 115, [1, 4, 3, 1, 1, 0, 1]), (.invokevirtual 174, [1, 3, 2, 2, 1, 0, 1]), (.istore 4, []), (.aload_n 0, []), (.iload 4, []), (.iconst (-1), []), (.if_icmp .eq 7, [1]), (.iconst 1, []), (.goto 4, [2])]),
  (false, [(.iconst 0, []), (.nop, [2])]),
  (true, [(.iconst 4, []), (.iload_n 3, []), (.invokevirtual 108, [1, 4, 6, 4, 0, 0, 1]), (.aload_n 0, []), (.dup, []), (.getfield 85, [4, 5, 0]), (.iconst 1, []), (.iadd, []), (.putfield 85, [4, 5, 0]), (.aload_n 0, []), (.invokevirtual 104, [1, 4, 4, 1, 1, 0, 1]), (.istore 5, []), (.aload_n 0, []), (.aload_n 0, []), (.aload_n 2, []), (.getfield 78, [3, 7, 1]), (.iload 4, []), (.iaload, []), (.invokevirtual 224, [1, 4, 25, 2, 1, 0, 1]), (.iconst 5, []), (.iload 5, []), (.invokevirtual 108, [1, 4, 6, 4, 0, 0, 1]), (.aload_n 0, []), (.getfield 221, [4, 10, 0]), (.aload_n 0, []), (.getfield 218, [4, 9, 0]), (.isub, []), (.iconst 1, []), (.iadd, []), (.istore 6, []), (.iload 4, []), (.aload_n 2, []), (.getfield 68, [3, 3, 0]), (.if_icmp .lt 7, [3]), (.iconst 1, []), (.goto 4, [4])]),
  (false, [(.iconst 0, []), (.nop, [4])]),
  (true, [(.istore 7, []), (.aload_n 0, []), (.iload 7, []), (.ifCond .ne 25, [5]), (.aload_n 0, []), (.getfield 35, [4, 11, 1]), (.iload 4, []), (.iaload, []), (.aload_n 0, []), (.getfield 218, [4, 9, 0]), (.aload_n 0, []), (.getfield 221, [4, 10, 0]), (.invokestatic 234, [0, 4, 29, 2, 1, 0, 1]), (.iand, []), (.ifCond .ne 7, [6]), (.nop, [5])]),
  (false, [(.iconst 1, []), (.goto 4, [7])]),
  (false, [(.iconst 0, []), (.nop, [7])]),
  (true, [(.iconst 3, []), (.iload_n 3, []), (.invokevirtual 108, [1, 4, 6, 4, 0, 0, 1]), (.aload_n 0, []), (.getfield 35, [4, 11, 1]), (.iload 4, []), (.dup2, []), (.iaload, []), (.aload_n 0, []), (.getfield 218, [4, 9, 0]), (.aload_n 0, []), (.getfield 221, [4, 10, 0]), (.invokestatic 234, [0, 4, 29, 2, 1, 0, 1]), (.ior, []), (.iastore, []), (.aload_n 0, []), (.dup, []), (.getfield 85, [4, 5, 0]), (.iconst 1, []), (.iadd, []), (.putfield 85, [4, 5, 0]), (.iload 7, []), (.ifCond .eq 13, [8]), (.aload_n 0, []), (.aload_n 1, []), (.iload 6, []), (.invokevirtual 238, [1, 4, 31, 3, 0, 0, 1]), (.goto 10, [9])]),
  (false, [(.aload_n 0, []), (.aload_n 1, []), (.iload 6, []), (.invokevirtual 241, [1, 4, 32, 3, 0, 0, 1]), (.nop, [9])]),
  (false, [(.return_, [])])]
/-- TowerComputer$ChipReader.drives(LTowerComputer$Chip;I)V -/
def m_4_31 : List am_B := [
  (false, [(.aload_n 0, []), (.invokevirtual 104, [1, 4, 4, 1, 1, 0, 1]), (.istore_n 3, []), (.aload_n 0, []), (.aload_n 0, []), (.invokevirtual 112, [1, 4, 2, 1, 1, 0, 1]), (.iconst 2, []), (.if_icmp .ne 7, [1]), (.iconst 1, []), (.goto 4, [2])]),
  (false, [(.iconst 0, []), (.nop, [2])]),
  (true, [(.iconst 4, []), (.iload_n 3, []), (.invokevirtual 108, [1, 4, 6, 4, 0, 0, 1]), (.aload_n 1, []), (.aload_n 0, []), (.invokevirtual 115, [1, 4, 3, 1, 1, 0, 1]), (.invokevirtual 174, [1, 3, 2, 2, 1, 0, 1]), (.istore 4, []), (.aload_n 0, []), (.iload 4, []), (.iconst (-1), []), (.if_icmp .eq 12, [3]), (.iload 4, []), (.aload_n 1, []), (.getfield 68, [3, 3, 0]), (.if_icmp .lt 7, [4]), (.nop, [3])]),
  (false, [(.iconst 1, []), (.goto 4, [5])]),
  (false, [(.iconst 0, []), (.nop, [5])]),
  (true, [(.iconst 4, []), (.iload_n 3, []), (.invokevirtual 108, [1, 4, 6, 4, 0, 0, 1]), (.aload_n 1, []), (.aload_n 0, []), (.invokevirtual 115, [1, 4, 3, 1, 1, 0, 1]), (.invokevirtual 178, [1, 3, 3, 2, 1, 0, 1]), (.istore 5, []), (.aload_n 0, []), (.dup, []), (.getfield 85, [4, 5, 0]), (.iconst 1, []), (.iadd, []), (.putfield 85, [4, 5, 0]), (.aload_n 0, []), (.invokevirtual 104, [1, 4, 4, 1, 1, 0, 1]), (.istore 6, []), (.iload 4, []), (.iconst (-1), []), (.if_icmp .ne 54, [10]), (.aload_n 0, []), (.aload_n 1, []), (.getfield 189, [3, 11, 1]), (.iload 5, []), (.baload, [4]), (.ifCond .ne 7, [6]), (.iconst 1, []), (.goto 4, [7])]),
  (false, [(.iconst 0, []), (.nop, [7])]),
  (true, [(.iconst 3, []), (.iload_n 3, []), (.invokevirtual 108, [1, 4, 6, 4, 0, 0, 1]), (.aload_n 0, []), (.aload_n 0, []), (.bipush 91, []), (.invokevirtual 118, [1, 4, 8, 2, 1, 0, 1]), (.ifCond .ne 7, [8]), (.iconst 1, []), (.goto 4, [9])]),
  (false, [(.iconst 0, []), (.nop, [9])]),
  (false, [(.iconst 5, []), (.iload 6, []), (.invokevirtual 108, [1, 4, 6, 4, 0, 0, 1]), (.aload_n 1, []), (.getfield 189, [3, 11, 1]), (.iload 5, []), (.iconst 1, []), (.bastore, [4]), (.return_, [])]),
  (false, [(.aload_n 0, []), (.aload_n 0, []), (.aload_n 1, []), (.getfield 78, [3, 7, 1]), (.iload 4, []), (.iaload, []), (.invokevirtual 224, [1, 4, 25, 2, 1, 0, 1]), (.iconst 5, []), (.iload 6, []), (.invokevirtual 108, [1, 4, 6, 4, 0, 0, 1]), (.aload_n 0, []), (.aload_n 0, []), (.getfield 39, [4, 12, 1]), (.iload 4, []), (.iaload, []), (.aload_n 0, []), (.getfield 218, [4, 9, 0]), (.aload_n 0, []), (.getfield 221, [4, 10, 0]), (.invokestatic 234, [0, 4, 29, 2, 1, 0, 1]), (.iand, []), (.ifCond .ne 7, [11]), (.iconst 1, []), (.goto 4, [12])]),
  (false, [(.iconst 0, []), (.nop, [12])]),
  (true, [(.iconst 3, []), (.iload_n 3, []), (.invokevirtual 108, [1, 4, 6, 4, 0, 0, 1]), (.aload_n 0, []), (.getfield 39, [4, 12, 1]), (.iload 4, []), (.dup2, []), (.iaload, []), (.aload_n 0, []), (.getfield 218, [4, 9, 0]), (.aload_n 0, []), (.getfield 221, [4, 10, 0]), (.invokestatic 234, [0, 4, 29, 2, 1, 0, 1]), (.ior, []), (.iastore, []), (.aload_n 0, []), (.aload_n 0, []), (.getfield 221, [4, 10, 0]), (.aload_n 0, []), (.getfield 218, [4, 9, 0]), (.isub, []), (.iconst 1, []), (.iadd, []), (.iload_n 2, []), (.if_icmp .ne 7, [13]), (.iconst 1, []), (.goto 4, [14])]),
  (false, [(.iconst 0, []), (.nop, [14])]),
  (false, [(.iconst 5, []), (.iload_n 3, []), (.invokevirtual 108, [1, 4, 6, 4, 0, 0, 1]), (.return_, [])])]
/-- TowerComputer$ChipReader.takes(LTowerComputer$Chip;I)V -/
def m_4_32 : List am_B := [
  (false, [(.aload_n 0, []), (.invokevirtual 104, [1, 4, 4, 1, 1, 0, 1]), (.istore_n 3, []), (.aload_n 0, []), (.invokevirtual 112, [1, 4, 2, 1, 1, 0, 1]), (.iconst 1, []), (.if_icmp .ne 14, [1]), (.aload_n 0, []), (.dup, []), (.getfield 85, [4, 5, 0]), (.iconst 1, []), (.iadd, []), (.putfield 85, [4, 5, 0]), (.return_, [])]),
  (false, [(.aload_n 1, []), (.aload_n 0, []), (.invokevirtual 115, [1, 4, 3, 1, 1, 0, 1]), (.invokevirtual 174, [1, 3, 2, 2, 1, 0, 1]), (.istore 4, []), (.aload_n 1, []), (.aload_n 0, []), (.invokevirtual 115, [1, 4, 3, 1, 1, 0, 1]), (.invokevirtual 178, [1, 3, 3, 2, 1, 0, 1]), (.istore 5, []), (.aload_n 0, []), (.iload 4, []), (.iconst (-1), []), (.if_icmp .ne 21, [3]), (.aload_n 1, []), (.getfield 186, [3, 10, 1]), (.iload 5, []), (.iaload, []), (.ifCond .eq 7, [2]), (.iconst 1, []), (.goto 21, [5])]),
  (false, [(.iconst 0, []), (.goto 17, [5])]),
  (false, [(.iload 4, []), (.aload_n 1, []), (.getfield 68, [3, 3, 0]), (.if_icmp .ge 7, [4]), (.iconst 1, []), (.goto 4, [5])]),
  (false, [(.iconst 0, []), (.nop, [5])]),
  (true, [(.iconst 4, []), (.iload_n 3, []), (.invokevirtual 108, [1, 4, 6, 4, 0, 0, 1]), (.aload_n 0, []), (.dup, []), (.getfield 85, [4, 5, 0]), (.iconst 1, []), (.iadd, []), (.putfield 85, [4, 5, 0]), (.aload_n 0, []), (.invokevirtual 104, [1, 4, 4, 1, 1, 0, 1]), (.istore 6, []), (.iload 4, []), (.iconst (-1), []), (.if_icmp .ne 58, [11]), (.aload_n 0, []), (.aload_n 0, []), (.bipush 91, []), (.invokevirtual 118, [1, 4, 8, 2, 1, 0, 1]), (.ifCond .ne 7, [6]), (.iconst 1, []), (.goto 4, [7])]),
  (false, [(.iconst 0, []), (.nop, [7])]),
  (true, [(.iconst 5, []), (.iload 6, []), (.invokevirtual 108, [1, 4, 6, 4, 0, 0, 1]), (.aload_n 0, []), (.aload_n 1, []), (.getfield 186, [3, 10, 1]), (.iload 5, []), (.iaload, []), (.iconst (-1), []), (.if_icmp .eq 14, [8]), (.aload_n 1, []), (.getfield 186, [3, 10, 1]), (.iload 5, []), (.iaload, []), (.iload_n 2, []), (.if_icmp .ne 7, [9]), (.nop, [8])]),
  (false, [(.iconst 1, []), (.goto 4, [10])]),
  (false, [(.iconst 0, []), (.nop, [10])]),
  (false, [(.iconst 5, []), (.iload_n 3, []), (.invokevirtual 108, [1, 4, 6, 4, 0, 0, 1]), (.return_, [])]),
  (false, [(.aload_n 0, []), (.aload_n 0, []), (.aload_n 1, []), (.getfield 78, [3, 7, 1]), (.iload 4, []), (.iaload, []), (.invokevirtual 224, [1, 4, 25, 2, 1, 0, 1]), (.iconst 5, []), (.iload 6, []), (.invokevirtual 108, [1, 4, 6, 4, 0, 0, 1]), (.aload_n 0, []), (.aload_n 0, []), (.getfield 221, [4, 10, 0]), (.aload_n 0, []), (.getfield 218, [4, 9, 0]), (.isub, []), (.iconst 1, []), (.iadd, []), (.iload_n 2, []), (.if_icmp .ne 7, [12]), (.iconst 1, []), (.goto 4, [13])]),
  (false, [(.iconst 0, []), (.nop, [13])]),
  (false, [(.iconst 5, []), (.iload_n 3, []), (.invokevirtual 108, [1, 4, 6, 4, 0, 0, 1]), (.return_, [])])]
/-- TowerComputer$ChipReader.isIn(I)Z -/
def m_4_33 : List am_B := [
  (false, [(.iconst 0, []), (.istore_n 2, []), (.nop, [1])]),
  (true, [(.iload_n 2, []), (.aload_n 0, []), (.getfield 136, [4, 6, 0]), (.if_icmp .ge 16, [2]), (.aload_n 0, []), (.getfield 47, [4, 14, 1]), (.iload_n 2, []), (.iconst 0, []), (.bastore, [4]), (.iinc 2 1, []), (.goto (-18), [1])]),
  (false, [(.aload_n 0, []), (.aload_n 0, []), (.getfield 13, [4, 1, 1]), (.iload_n 1, []), (.aaload, [12]), (.invokevirtual 244, [1, 4, 34, 2, 1, 0, 1]), (.pop, []), (.iconst 1, []), (.istore_n 2, []), (.nop, [3])]),
  (true, [(.iload_n 2, []), (.ifCond .eq 56, [10]), (.iconst 0, []), (.istore_n 2, []), (.iconst 0, []), (.istore_n 3, []), (.nop, [4])]),
  (true, [(.iload_n 3, []), (.aload_n 0, []), (.getfield 136, [4, 6, 0]), (.if_icmp .ge 41, [9]), (.aload_n 0, []), (.getfield 47, [4, 14, 1]), (.iload_n 3, []), (.baload, [4]), (.ifCond .eq 26, [8]), (.aload_n 0, []), (.aload_n 0, []), (.getfield 13, [4, 1, 1]), (.iload_n 3, []), (.aaload, [12]), (.invokevirtual 244, [1, 4, 34, 2, 1, 0, 1]), (.ifCond .ne 7, [5]), (.iload_n 2, []), (.ifCond .eq 7, [6]), (.nop, [5])]),
  (false, [(.iconst 1, []), (.goto 4, [7])]),
  (false, [(.iconst 0, []), (.nop, [7])]),
  (false, [(.istore_n 2, []), (.nop, [8])]),
  (false, [(.iinc 3 1, []), (.goto (-43), [4])]),
  (false, [(.goto (-54), [3])]),
  (false, [(.aload_n 0, []), (.getfield 47, [4, 14, 1]), (.iload_n 1, []), (.baload, [4]), (.ireturn, [1])])]
/-- TowerComputer$ChipReader.mark(LTowerComputer$Chip;)Z -/
def m_4_34 : List am_B := [
  (false, [(.iconst 0, []), (.istore_n 2, []), (.iconst 0, []), (.istore_n 3, []), (.nop, [1])]),
  (true, [(.iload_n 3, []), (.aload_n 1, []), (.getfield 162, [3, 4, 0]), (.if_icmp .ge 86, [7]), (.aload_n 0, []), (.aload_n 0, []), (.getfield 56, [4, 0, 1]), (.getfield 88, [5, 3, 1]), (.aload_n 1, []), (.getfield 165, [3, 8, 1]), (.iload_n 3, []), (.iaload, []), (.saload, []), (.invokevirtual 198, [1, 4, 19, 2, 3, 0, 1]), (.astore 4, []), (.aload 4, []), (.aload_n 0, []), (.getfield 18, [4, 2, 1]), (.if_acmp .eq 51, [6]), (.aload 4, []), (.aload_n 0, []), (.getfield 22, [4, 3, 1]), (.if_acmp .ne 6, [2]), (.goto 39, [6])]),
  (false, [(.aload_n 0, []), (.aload 4, []), (.invokevirtual 211, [1, 4, 23, 2, 1, 0, 1]), (.istore 5, []), (.iload_n 2, []), (.ifCond .ne 13, [3]), (.aload_n 0, []), (.getfield 47, [4, 14, 1]), (.iload 5, []), (.baload, [4]), (.ifCond .ne 7, [4]), (.nop, [3])]),
  (false, [(.iconst 1, []), (.goto 4, [5])]),
  (false, [(.iconst 0, []), (.nop, [5])]),
  (false, [(.istore_n 2, []), (.aload_n 0, []), (.getfield 47, [4, 14, 1]), (.iload 5, []), (.iconst 1, []), (.bastore, [4]), (.nop, [6])]),
  (false, [(.iinc 3 1, []), (.goto (-88), [1])]),
  (false, [(.iload_n 2, []), (.ireturn, [1])])]
/-- TowerComputer$ChipTokens.<init>([B)V -/
def m_5_0 : List am_B := [
  (false, [(.aload_n 0, []), (.invokespecial 1, [3, 0, 0, 1, 0, 0, 0]), (.aload_n 0, []), (.new 7, [9]), (.dup, []), (.invokespecial 9, [2, 9, 0, 1, 0, 0, 0]), (.putfield 10, [5, 1, 1]), (.aload_n 0, []), (.sipush 2002, []), (.newarray .byte, [2]), (.putfield 16, [5, 2, 1]), (.aload_n 0, []), (.sipush 2002, []), (.newarray .short, [3]), (.putfield 20, [5, 3, 1]), (.aload_n 0, []), (.sipush 2002, []), (.newarray .int, [1]), (.putfield 24, [5, 4, 1]), (.aload_n 0, []), (.bipush 12, []), (.anewarray 28, [10]), (.dup, []), (.iconst 0, []), (.ldc 30, [1, 38]), (.aastore, [10]), (.dup, []), (.iconst 1, []), (.ldc 32, [1, 39]), (.aastore, [10]), (.dup, []), (.iconst 2, []), (.ldc 34, [1, 40]), (.aastore, [10]), (.dup, []), (.iconst 3, []), (.ldc 36, [1, 41]), (.aastore, [10]), (.dup, []), (.iconst 4, []), (.ldc 38, [1, 42]), (.aastore, [10]), (.dup, []), (.iconst 5, []), (.ldc 40, [1, 43]), (.aastore, [10]), (.dup, []), (.bipush 6, []), (.ldc 42, [1, 44]), (.aastore, [10]), (.dup, []), (.bipush 7, []), (.ldc 44, [1, 45]), (.aastore, [10]), (.dup, []), (.bipush 8, []), (.ldc 46, [1, 46]), (.aastore, [10]), (.dup, []), (.bipush 9, []), (.ldc 48, [1, 47]), (.aastore, [10]), (.dup, []), (.bipush 10, []), (.ldc 50, [1, 48]), (.aastore, [10]), (.dup, []), (.bipush 11, []), (.ldc 52, [1, 49]), (.aastore, [10]), (.putfield 54, [5, 5, 1]), (.aload_n 0, []), (.bipush 16, []), (.newarray .byte, [2]), (.putfield 58, [5, 9, 1]), (.aload_n 0, []), (.aload_n 1, []), (.putfield 61, [5, 0, 1]), (.return_, [])])]
/-- TowerComputer$ChipTokens.here(I)I -/
def m_5_1 : List am_B := [
  (false, [(.aload_n 0, []), (.getfield 64, [5, 8, 0]), (.iload_n 1, []), (.iadd, []), (.aload_n 0, []), (.getfield 68, [5, 7, 0]), (.if_icmp .ge 21, [1]), (.aload_n 0, []), (.getfield 61, [5, 0, 1]), (.aload_n 0, []), (.getfield 64, [5, 8, 0]), (.iload_n 1, []), (.iadd, []), (.baload, [2]), (.sipush 255, []), (.iand, []), (.goto 4, [2])]),
  (false, [(.iconst (-1), []), (.nop, [2])]),
  (false, [(.ireturn, [])])]
/-- TowerComputer$ChipTokens.begin()V -/
def m_5_2 : List am_B := [
  (false, [(.aload_n 0, []), (.getfield 10, [5, 1, 1]), (.iconst 0, []), (.invokevirtual 71, [1, 9, 4, 2, 0, 0, 1]), (.aload_n 0, []), (.getfield 58, [5, 9, 1]), (.astore_n 1, []), (.iconst 0, []), (.istore_n 2, []), (.nop, [1])]),
  (true, [(.iload_n 2, []), (.aload_n 0, []), (.getfield 54, [5, 5, 1]), (.arraylength, [0, 10]), (.if_icmp .ge 63, [4]), (.iconst 0, []), (.istore_n 3, []), (.nop, [2])]),
  (true, [(.iload_n 3, []), (.aload_n 0, []), (.getfield 54, [5, 5, 1]), (.iload_n 2, []), (.aaload, [10]), (.invokevirtual 75, [6, 0, 0, 1, 0, 0, 0]), (.if_icmp .ge 23, [3]), (.aload_n 1, []), (.iload_n 3, []), (.aload_n 0, []), (.getfield 54, [5, 5, 1]), (.iload_n 2, []), (.aaload, [10]), (.iload_n 3, []), (.invokevirtual 78, [7, 0, 0, 2, 0, 0, 0]), (.i2b, []), (.bastore, [2]), (.iinc 3 1, []), (.goto (-30), [2])]),
  (false, [(.aload_n 0, []), (.getfield 10, [5, 1, 1]), (.aload_n 1, []), (.iconst 0, []), (.aload_n 0, []), (.getfield 54, [5, 5, 1]), (.iload_n 2, []), (.aaload, [10]), (.invokevirtual 75, [6, 0, 0, 1, 0, 0, 0]), (.invokevirtual 82, [1, 9, 1, 4, 1, 0, 1]), (.pop, []), (.iinc 2 1, []), (.goto (-66), [1])]),
  (false, [(.return_, [])])]
/-- TowerComputer$ChipTokens.read(I)V -/
def m_5_3 : List am_B := [
  (false, [(.aload_n 0, []), (.invokevirtual 86, [1, 5, 2, 1, 0, 0, 1]), (.aload_n 0, []), (.iload_n 1, []), (.putfield 68, [5, 7, 0]), (.aload_n 0, []), (.iconst 0, []), (.putfield 64, [5, 8, 0]), (.aload_n 0, []), (.iconst 0, []), (.putfield 89, [5, 6, 0]), (.iconst 1, []), (.istore_n 2, []), (.nop, [1])]),
  (true, [(.iload_n 2, []), (.ifCond .eq 149, [9]), (.aload_n 0, []), (.invokevirtual 92, [1, 5, 5, 1, 1, 0, 1]), (.istore_n 3, []), (.aload_n 0, []), (.getfield 64, [5, 8, 0]), (.istore 4, []), (.aload_n 0, []), (.iconst 0, []), (.invokevirtual 96, [1, 5, 1, 2, 1, 0, 1]), (.istore 5, []), (.iload_n 3, []), (.ifCond .ne 14, [2]), (.aload_n 0, []), (.iconst 5, []), (.iconst 0, []), (.iload 4, []), (.invokevirtual 100, [1, 5, 4, 4, 0, 0, 1]), (.goto 68, [6])]),
  (false, [(.iload 5, []), (.ifCond .ge 14, [3]), (.aload_n 0, []), (.iconst 0, []), (.iconst 0, []), (.iload 4, []), (.invokevirtual 100, [1, 5, 4, 4, 0, 0, 1]), (.goto 52, [6])]),
  (false, [(.iload 5, []), (.invokestatic 104, [0, 13, 3, 1, 1, 0, 1]), (.ifCond .eq 19, [4]), (.iload 5, []), (.bipush 95, []), (.if_icmp .eq 12, [4]), (.aload_n 0, []), (.iload 4, []), (.invokevirtual 110, [1, 5, 6, 2, 0, 0, 1]), (.goto 28, [6])]),
  (false, [(.iload 5, []), (.invokestatic 113, [0, 13, 2, 1, 1, 0, 1]), (.ifCond .eq 12, [5]), (.aload_n 0, []), (.iload 4, []), (.invokevirtual 116, [1, 5, 7, 2, 0, 0, 1]), (.goto 11, [6])]),
  (false, [(.aload_n 0, []), (.iload 5, []), (.iload 4, []), (.invokevirtual 119, [1, 5, 8, 3, 0, 0, 1]), (.nop, [6])]),
  (true, [(.aload_n 0, []), (.getfield 16, [5, 2, 1]), (.aload_n 0, []), (.getfield 89, [5, 6, 0]), (.iconst 1, []), (.isub, []), (.baload, [2]), (.ifCond .eq 32, [7]), (.aload_n 0, []), (.getfield 16, [5, 2, 1]), (.aload_n 0, []), (.getfield 89, [5, 6, 0]), (.iconst 1, []), (.isub, []), (.baload, [2]), (.iconst 5, []), (.if_icmp .eq 17, [7]), (.aload_n 0, []), (.getfield 89, [5, 6, 0]), (.sipush 2000, []), (.if_icmp .gt 7, [7]), (.iconst 1, []), (.goto 4, [8])]),
  (false, [(.iconst 0, []), (.nop, [8])]),
  (false, [(.istore_n 2, []), (.goto (-147), [1])]),
  (false, [(.return_, [])])]
/-- TowerComputer$ChipTokens.add(III)V -/
def m_5_4 : List am_B := [
  (false, [(.aload_n 0, []), (.getfield 16, [5, 2, 1]), (.aload_n 0, []), (.getfield 89, [5, 6, 0]), (.iload_n 1, []), (.i2b, []), (.bastore, [2]), (.aload_n 0, []), (.getfield 20, [5, 3, 1]), (.aload_n 0, []), (.getfield 89, [5, 6, 0]), (.iload_n 2, []), (.i2s, []), (.sastore, []), (.aload_n 0, []), (.getfield 24, [5, 4, 1]), (.aload_n 0, []), (.getfield 89, [5, 6, 0]), (.iload_n 3, []), (.iastore, []), (.aload_n 0, []), (.dup, []), (.getfield 89, [5, 6, 0]), (.iconst 1, []), (.iadd, []), (.putfield 89, [5, 6, 0]), (.return_, [])])]
/-- TowerComputer$ChipTokens.skip()Z -/
def m_5_5 : List am_B := [
  (true, [(.aload_n 0, []), (.iconst 0, []), (.invokevirtual 96, [1, 5, 1, 2, 1, 0, 1]), (.istore_n 1, []), (.iload_n 1, []), (.bipush 32, []), (.if_icmp .eq 21, [1]), (.iload_n 1, []), (.bipush 9, []), (.if_icmp .eq 15, [1]), (.iload_n 1, []), (.bipush 10, []), (.if_icmp .eq 9, [1]), (.iload_n 1, []), (.bipush 13, []), (.if_icmp .ne 16, [2]), (.nop, [1])]),
  (false, [(.aload_n 0, []), (.dup, []), (.getfield 64, [5, 8, 0]), (.iconst 1, []), (.iadd, []), (.putfield 64, [5, 8, 0]), (.goto 161, [10])]),
  (false, [(.iload_n 1, []), (.bipush 47, []), (.if_icmp .ne 47, [4]), (.aload_n 0, []), (.iconst 1, []), (.invokevirtual 96, [1, 5, 1, 2, 1, 0, 1]), (.bipush 47, []), (.if_icmp .ne 37, [4]), (.nop, [3])]),
  (true, [(.aload_n 0, []), (.getfield 64, [5, 8, 0]), (.aload_n 0, []), (.getfield 68, [5, 7, 0]), (.if_icmp .ge 134, [10]), (.aload_n 0, []), (.iconst 0, []), (.invokevirtual 96, [1, 5, 1, 2, 1, 0, 1]), (.bipush 10, []), (.if_icmp .eq 124, [10]), (.aload_n 0, []), (.dup, []), (.getfield 64, [5, 8, 0]), (.iconst 1, []), (.iadd, []), (.putfield 64, [5, 8, 0]), (.goto (-31), [3])]),
  (true, [(.iload_n 1, []), (.bipush 47, []), (.if_icmp .ne 103, [9]), (.aload_n 0, []), (.iconst 1, []), (.invokevirtual 96, [1, 5, 1, 2, 1, 0, 1]), (.bipush 42, []), (.if_icmp .ne 93, [9]), (.aload_n 0, []), (.getfield 64, [5, 8, 0]), (.istore_n 2, []), (.aload_n 0, []), (.dup, []), (.getfield 64, [5, 8, 0]), (.iconst 2, []), (.iadd, []), (.putfield 64, [5, 8, 0]), (.nop, [5])]),
  (true, [(.aload_n 0, []), (.getfield 64, [5, 8, 0]), (.aload_n 0, []), (.getfield 68, [5, 7, 0]), (.if_icmp .ge 36, [7]), (.aload_n 0, []), (.iconst 0, []), (.invokevirtual 96, [1, 5, 1, 2, 1, 0, 1]), (.bipush 42, []), (.if_icmp .ne 13, [6]), (.aload_n 0, []), (.iconst 1, []), (.invokevirtual 96, [1, 5, 1, 2, 1, 0, 1]), (.bipush 47, []), (.if_icmp .eq 16, [7]), (.nop, [6])]),
  (false, [(.aload_n 0, []), (.dup, []), (.getfield 64, [5, 8, 0]), (.iconst 1, []), (.iadd, []), (.putfield 64, [5, 8, 0]), (.goto (-41), [5])]),
  (true, [(.aload_n 0, []), (.getfield 64, [5, 8, 0]), (.aload_n 0, []), (.getfield 68, [5, 7, 0]), (.if_icmp .lt 10, [8]), (.aload_n 0, []), (.iload_n 2, []), (.putfield 64, [5, 8, 0]), (.iconst 0, []), (.ireturn, [1])]),
  (false, [(.aload_n 0, []), (.dup, []), (.getfield 64, [5, 8, 0]), (.iconst 2, []), (.iadd, []), (.putfield 64, [5, 8, 0]), (.goto 5, [10])]),
  (false, [(.iconst 1, []), (.ireturn, [1])]),
  (false, [(.goto (-201), [0])])]
/-- TowerComputer$ChipTokens.word(I)V -/
def m_5_6 : List am_B := [
  (true, [(.aload_n 0, []), (.iconst 0, []), (.invokevirtual 96, [1, 5, 1, 2, 1, 0, 1]), (.invokestatic 123, [0, 13, 4, 1, 1, 0, 1]), (.ifCond .eq 16, [1]), (.aload_n 0, []), (.dup, []), (.getfield 64, [5, 8, 0]), (.iconst 1, []), (.iadd, []), (.putfield 64, [5, 8, 0]), (.goto (-21), [0])]),
  (false, [(.aload_n 0, []), (.getfield 64, [5, 8, 0]), (.iload_n 1, []), (.isub, []), (.bipush 16, []), (.if_icmp .le 11, [2]), (.aload_n 0, []), (.iconst 5, []), (.iconst 0, []), (.iload_n 1, []), (.invokevirtual 100, [1, 5, 4, 4, 0, 0, 1]), (.return_, [])]),
  (false, [(.aload_n 0, []), (.getfield 10, [5, 1, 1]), (.aload_n 0, []), (.getfield 61, [5, 0, 1]), (.iload_n 1, []), (.aload_n 0, []), (.getfield 64, [5, 8, 0]), (.iload_n 1, []), (.isub, []), (.invokevirtual 82, [1, 9, 1, 4, 1, 0, 1]), (.istore_n 2, []), (.aload_n 0, []), (.iload_n 2, []), (.bipush 6, []), (.if_icmp .ge 7, [3]), (.iconst 1, []), (.goto 4, [4])]),
  (false, [(.iconst 2, []), (.nop, [4])]),
  (false, [(.iload_n 2, []), (.iload_n 1, []), (.invokevirtual 100, [1, 5, 4, 4, 0, 0, 1]), (.return_, [])])]
/-- TowerComputer$ChipTokens.number(I)V -/
def m_5_7 : List am_B := [
  (false, [(.iconst 0, []), (.istore_n 2, []), (.nop, [1])]),
  (true, [(.aload_n 0, []), (.iconst 0, []), (.invokevirtual 96, [1, 5, 1, 2, 1, 0, 1]), (.invokestatic 113, [0, 13, 2, 1, 1, 0, 1]), (.ifCond .eq 36, [2]), (.sipush 1000, []), (.bipush 10, []), (.iload_n 2, []), (.imul, []), (.aload_n 0, []), (.iconst 0, []), (.invokevirtual 96, [1, 5, 1, 2, 1, 0, 1]), (.iadd, []), (.bipush 48, []), (.isub, []), (.invokestatic 126, [4, 0, 0, 2, 0, 0, 0]), (.istore_n 2, []), (.aload_n 0, []), (.dup, []), (.getfield 64, [5, 8, 0]), (.iconst 1, []), (.iadd, []), (.putfield 64, [5, 8, 0]), (.goto (-41), [1])]),
  (false, [(.aload_n 0, []), (.getfield 64, [5, 8, 0]), (.iload_n 1, []), (.isub, []), (.iconst 2, []), (.if_icmp .gt 18, [3]), (.aload_n 0, []), (.iconst 0, []), (.invokevirtual 96, [1, 5, 1, 2, 1, 0, 1]), (.invokestatic 123, [0, 13, 4, 1, 1, 0, 1]), (.ifCond .ne 7, [3]), (.iconst 1, []), (.goto 4, [4])]),
  (false, [(.iconst 0, []), (.nop, [4])]),
  (true, [(.istore_n 3, []), (.aload_n 0, []), (.iload_n 3, []), (.ifCond .eq 7, [5]), (.iconst 3, []), (.goto 4, [6])]),
  (false, [(.iconst 5, []), (.nop, [6])]),
  (false, [(.iload_n 3, []), (.ifCond .eq 7, [7]), (.iload_n 2, []), (.goto 4, [8])]),
  (false, [(.iconst 0, []), (.nop, [8])]),
  (false, [(.iload_n 1, []), (.invokevirtual 100, [1, 5, 4, 4, 0, 0, 1]), (.return_, [])])]
/-- TowerComputer$ChipTokens.sign(II)V -/
def m_5_8 : List am_B := [
  (false, [(.iload_n 1, []), (.bipush 46, []), (.if_icmp .ne 17, [1]), (.aload_n 0, []), (.iconst 1, []), (.invokevirtual 96, [1, 5, 1, 2, 1, 0, 1]), (.bipush 46, []), (.if_icmp .ne 7, [1]), (.iconst 1, []), (.goto 4, [2])]),
  (false, [(.iconst 0, []), (.nop, [2])]),
  (true, [(.istore_n 3, []), (.iload_n 3, []), (.ifCond .ne 63, [3]), (.iload_n 1, []), (.bipush 123, []), (.if_icmp .eq 57, [3]), (.iload_n 1, []), (.bipush 125, []), (.if_icmp .eq 51, [3]), (.iload_n 1, []), (.bipush 40, []), (.if_icmp .eq 45, [3]), (.iload_n 1, []), (.bipush 41, []), (.if_icmp .eq 39, [3]), (.iload_n 1, []), (.bipush 91, []), (.if_icmp .eq 33, [3]), (.iload_n 1, []), (.bipush 93, []), (.if_icmp .eq 27, [3]), (.iload_n 1, []), (.bipush 44, []), (.if_icmp .eq 21, [3]), (.iload_n 1, []), (.bipush 59, []), (.if_icmp .eq 15, [3]), (.iload_n 1, []), (.bipush 58, []), (.if_icmp .eq 9, [3]), (.iload_n 1, []), (.bipush 61, []), (.if_icmp .ne 7, [4]), (.nop, [3])]),
  (false, [(.iconst 1, []), (.goto 4, [5])]),
  (false, [(.iconst 0, []), (.nop, [5])]),
  (false, [(.istore 4, []), (.aload_n 0, []), (.dup, []), (.getfield 64, [5, 8, 0]), (.iload_n 3, []), (.ifCond .eq 7, [6]), (.iconst 2, []), (.goto 4, [7])]),
  (false, [(.iconst 1, []), (.nop, [7])]),
  (true, [(.iadd, []), (.putfield 64, [5, 8, 0]), (.aload_n 0, []), (.iload 4, []), (.ifCond .eq 7, [8]), (.iconst 4, []), (.goto 4, [9])]),
  (false, [(.iconst 5, []), (.nop, [9])]),
  (false, [(.iload_n 3, []), (.ifCond .eq 9, [10]), (.sipush 256, []), (.goto 4, [11])]),
  (false, [(.iload_n 1, []), (.nop, [11])]),
  (false, [(.iload_n 2, []), (.invokevirtual 100, [1, 5, 4, 4, 0, 0, 1]), (.return_, [])])]
/-- TowerComputer$Classes.<init>()V -/
def m_6_0 : List am_B := [
  (false, [(.aload_n 0, []), (.invokespecial 3, [3, 0, 0, 1, 0, 0, 0]), (.aload_n 0, []), (.bipush 24, []), (.newarray .int, [1]), (.putfield 11, [6, 0, 1]), (.aload_n 0, []), (.bipush 24, []), (.newarray .boolean, [4]), (.putfield 15, [6, 1, 1]), (.aload_n 0, []), (.bipush 24, []), (.newarray .int, [1]), (.putfield 19, [6, 2, 1]), (.return_, [])])]
/-- TowerComputer$Classes.find(I)I -/
def m_6_1 : List am_B := [
  (false, [(.iconst 0, []), (.istore_n 2, []), (.nop, [1])]),
  (true, [(.iload_n 2, []), (.aload_n 0, []), (.getfield 22, [6, 3, 0]), (.if_icmp .ge 21, [3]), (.aload_n 0, []), (.getfield 11, [6, 0, 1]), (.iload_n 2, []), (.iaload, []), (.iload_n 1, []), (.if_icmp .ne 5, [2]), (.iload_n 2, []), (.ireturn, [])]),
  (false, [(.iinc 2 1, []), (.goto (-23), [1])]),
  (false, [(.iconst (-1), []), (.ireturn, [])])]
/-- TowerComputer$Classes.add(I)V -/
def m_6_2 : List am_B := [
  (false, [(.aload_n 0, []), (.getfield 11, [6, 0, 1]), (.aload_n 0, []), (.getfield 22, [6, 3, 0]), (.iload_n 1, []), (.iastore, []), (.aload_n 0, []), (.getfield 15, [6, 1, 1]), (.aload_n 0, []), (.getfield 22, [6, 3, 0]), (.iconst 1, []), (.bastore, [4]), (.aload_n 0, []), (.getfield 19, [6, 2, 1]), (.aload_n 0, []), (.getfield 22, [6, 3, 0]), (.iconst 0, []), (.iastore, []), (.aload_n 0, []), (.dup, []), (.getfield 22, [6, 3, 0]), (.iconst 1, []), (.iadd, []), (.putfield 22, [6, 3, 0]), (.return_, [])])]
/-- TowerComputer$Compiler.<init>(LTowerComputer$Names;LTowerComputer$Vm;[B[I)V -/
def m_7_0 : List am_B := [
  (false, [(.aload_n 0, []), (.invokespecial 3, [3, 0, 0, 1, 0, 0, 0]), (.aload_n 0, []), (.new 9, [6]), (.dup, []), (.invokespecial 11, [2, 6, 0, 1, 0, 0, 0]), (.putfield 12, [7, 1, 1]), (.aload_n 0, []), (.new 18, [12]), (.dup, []), (.invokespecial 20, [2, 12, 0, 1, 0, 0, 0]), (.putfield 21, [7, 2, 1]), (.aload_n 0, []), (.new 25, [15]), (.dup, []), (.invokespecial 27, [2, 15, 0, 1, 0, 0, 0]), (.putfield 28, [7, 6, 1]), (.aload_n 0, []), (.new 25, [15]), (.dup, []), (.invokespecial 27, [2, 15, 0, 1, 0, 0, 0]), (.putfield 32, [7, 7, 1]), (.aload_n 0, []), (.new 35, [8]), (.dup, []), (.invokespecial 37, [2, 8, 0, 1, 0, 0, 0]), (.putfield 38, [7, 19, 1]), (.aload_n 0, []), (.new 42, [20]), (.dup, []), (.ldc 44, [1, 85]), (.invokespecial 46, [8, 0, 0, 2, 0, 0, 0]), (.putfield 49, [7, 25, 1]), (.aload_n 0, []), (.aload_n 1, []), (.putfield 52, [7, 0, 1]), (.aload_n 0, []), (.aload_n 2, []), (.putfield 56, [7, 3, 1]), (.aload_n 0, []), (.aload_n 3, []), (.putfield 60, [7, 4, 1]), (.aload_n 0, []), (.new 64, [13]), (.dup, []), (.aload_n 1, []), (.aload_n 3, []), (.invokespecial 66, [2, 13, 0, 3, 0, 0, 0]), (.putfield 69, [7, 5, 1]), (.aload_n 0, []), (.aload 4, []), (.iconst 0, []), (.iaload, []), (.putfield 73, [7, 26, 0]), (.aload_n 0, []), (.aload 4, []), (.iconst 1, []), (.iaload, []), (.putfield 77, [7, 27, 0]), (.aload_n 0, []), (.aload 4, []), (.iconst 2, []), (.iaload, []), (.putfield 80, [7, 28, 0]), (.aload_n 0, []), (.aload 4, []), (.iconst 3, []), (.iaload, []), (.putfield 83, [7, 29, 0]), (.aload_n 0, []), (.aload 4, []), (.iconst 4, []), (.iaload, []), (.putfield 86, [7, 30, 0]), (.aload_n 0, []), (.aload 4, []), (.iconst 5, []), (.iaload, []), (.putfield 89, [7, 31, 0]), (.aload_n 0, []), (.aload 4, []), (.bipush 6, []), (.iaload, []), (.putfield 92, [7, 32, 0]), (.aload_n 0, []), (.aload 4, []), (.bipush 7, []), (.iaload, []), (.putfield 95, [7, 33, 0]), (.aload_n 0, []), (.aload 4, []), (.bipush 8, []), (.iaload, []), (.putfield 98, [7, 34, 0]), (.aload_n 0, []), (.aload 4, []), (.bipush 9, []), (.iaload, []), (.putfield 101, [7, 35, 0]), (.return_, [])])]
/-- TowerComputer$Compiler.token()I -/
def m_7_1 : List am_B := [
  (false, [(.aload_n 0, []), (.getfield 69, [7, 5, 1]), (.getfield 104, [13, 2, 1]), (.aload_n 0, []), (.getfield 107, [7, 8, 0]), (.baload, [2]), (.ireturn, [])])]
/-- TowerComputer$Compiler.value()I -/
def m_7_2 : List am_B := [
  (false, [(.aload_n 0, []), (.getfield 69, [7, 5, 1]), (.getfield 110, [13, 3, 1]), (.aload_n 0, []), (.getfield 107, [7, 8, 0]), (.saload, []), (.ireturn, [])])]
/-- TowerComputer$Compiler.here()I -/
def m_7_3 : List am_B := [
  (false, [(.aload_n 0, []), (.getfield 69, [7, 5, 1]), (.getfield 114, [13, 4, 1]), (.aload_n 0, []), (.getfield 107, [7, 8, 0]), (.iaload, []), (.ireturn, [])])]
/-- TowerComputer$Compiler.isSign(I)Z -/
def m_7_4 : List am_B := [
  (false, [(.aload_n 0, []), (.invokevirtual 118, [1, 7, 1, 1, 1, 0, 1]), (.iconst 5, []), (.if_icmp .ne 15, [1]), (.aload_n 0, []), (.invokevirtual 122, [1, 7, 2, 1, 1, 0, 1]), (.iload_n 1, []), (.if_icmp .ne 7, [1]), (.iconst 1, []), (.goto 4, [2])]),
  (false, [(.iconst 0, []), (.nop, [2])]),
  (false, [(.ireturn, [1])])]
/-- TowerComputer$Compiler.isWord(I)Z -/
def m_7_5 : List am_B := [
  (false, [(.aload_n 0, []), (.invokevirtual 118, [1, 7, 1, 1, 1, 0, 1]), (.iconst 1, []), (.if_icmp .ne 15, [1]), (.aload_n 0, []), (.invokevirtual 122, [1, 7, 2, 1, 1, 0, 1]), (.iload_n 1, []), (.if_icmp .ne 7, [1]), (.iconst 1, []), (.goto 4, [2])]),
  (false, [(.iconst 0, []), (.nop, [2])]),
  (false, [(.ireturn, [1])])]
/-- TowerComputer$Compiler.fail(II)V -/
def m_7_6 : List am_B := [
  (false, [(.aload_n 0, []), (.iload_n 1, []), (.putfield 125, [7, 9, 0]), (.aload_n 0, []), (.iload_n 2, []), (.putfield 128, [7, 10, 0]), (.aload_n 0, []), (.getfield 49, [7, 25, 1]), (.athrow, [])])]
/-- TowerComputer$Compiler.need(Z)V -/
def m_7_7 : List am_B := [
  (false, [(.iload_n 1, []), (.ifCond .ne 12, [1]), (.aload_n 0, []), (.iconst 1, []), (.aload_n 0, []), (.invokevirtual 131, [1, 7, 3, 1, 1, 0, 1]), (.invokevirtual 134, [1, 7, 6, 3, 0, 0, 1]), (.nop, [1])]),
  (false, [(.return_, [])])]
/-- TowerComputer$Compiler.room(Z)V -/
def m_7_8 : List am_B := [
  (false, [(.iload_n 1, []), (.ifCond .ne 12, [1]), (.aload_n 0, []), (.iconst 2, []), (.aload_n 0, []), (.invokevirtual 131, [1, 7, 3, 1, 1, 0, 1]), (.invokevirtual 134, [1, 7, 6, 3, 0, 0, 1]), (.nop, [1])]),
  (false, [(.return_, [])])]
/-- TowerComputer$Compiler.check(ZII)V -/
def m_7_9 : List am_B := [
  (false, [(.aload_n 0, []), (.getfield 138, [7, 24, 3]), (.ifCond .eq 13, [1]), (.iload_n 1, []), (.ifCond .ne 9, [1]), (.aload_n 0, []), (.iload_n 2, []), (.iload_n 3, []), (.invokevirtual 134, [1, 7, 6, 3, 0, 0, 1]), (.nop, [1])]),
  (false, [(.return_, [])])]
/-- TowerComputer$Compiler.next()V -/
def m_7_10 : List am_B := [
  (false, [(.aload_n 0, []), (.dup, []), (.getfield 107, [7, 8, 0]), (.iconst 1, []), (.iadd, []), (.putfield 107, [7, 8, 0]), (.aload_n 0, []), (.getfield 142, [7, 23, 3]), (.ifCond .ne 42, [3]), (.aload_n 0, []), (.getfield 107, [7, 8, 0]), (.sipush 1000, []), (.if_icmp .lt 32, [3]), (.aload_n 0, []), (.invokevirtual 118, [1, 7, 1, 1, 1, 0, 1]), (.ifCond .eq 25, [3]), (.aload_n 0, []), (.aload_n 0, []), (.invokevirtual 118, [1, 7, 1, 1, 1, 0, 1]), (.bipush 6, []), (.if_icmp .ne 7, [1]), (.iconst 1, []), (.goto 4, [2])]),
  (false, [(.iconst 2, []), (.nop, [2])]),
  (false, [(.aload_n 0, []), (.invokevirtual 131, [1, 7, 3, 1, 1, 0, 1]), (.invokevirtual 134, [1, 7, 6, 3, 0, 0, 1]), (.nop, [3])]),
  (false, [(.return_, [])])]
/-- TowerComputer$Compiler.sign(I)V -/
def m_7_11 : List am_B := [
  (false, [(.aload_n 0, []), (.aload_n 0, []), (.iload_n 1, []), (.invokevirtual 145, [1, 7, 4, 2, 1, 0, 1]), (.invokevirtual 149, [1, 7, 7, 2, 0, 0, 1]), (.aload_n 0, []), (.invokevirtual 153, [1, 7, 10, 1, 0, 0, 1]), (.return_, [])])]
/-- TowerComputer$Compiler.name()I -/
def m_7_12 : List am_B := [
  (false, [(.aload_n 0, []), (.aload_n 0, []), (.invokevirtual 118, [1, 7, 1, 1, 1, 0, 1]), (.iconst 2, []), (.if_icmp .ne 7, [1]), (.iconst 1, []), (.goto 4, [2])]),
  (false, [(.iconst 0, []), (.nop, [2])]),
  (false, [(.invokevirtual 149, [1, 7, 7, 2, 0, 0, 1]), (.aload_n 0, []), (.invokevirtual 122, [1, 7, 2, 1, 1, 0, 1]), (.istore_n 1, []), (.aload_n 0, []), (.invokevirtual 153, [1, 7, 10, 1, 0, 0, 1]), (.iload_n 1, []), (.ireturn, [])])]
/-- TowerComputer$Compiler.open()V -/
def m_7_13 : List am_B := [
  (false, [(.aload_n 0, []), (.aload_n 0, []), (.getfield 156, [7, 11, 0]), (.bipush 25, []), (.if_icmp .ge 7, [1]), (.iconst 1, []), (.goto 4, [2])]),
  (false, [(.iconst 0, []), (.nop, [2])]),
  (false, [(.invokevirtual 159, [1, 7, 8, 2, 0, 0, 1]), (.aload_n 0, []), (.dup, []), (.getfield 156, [7, 11, 0]), (.iconst 1, []), (.iadd, []), (.putfield 156, [7, 11, 0]), (.return_, [])])]
/-- TowerComputer$Compiler.push(II)V -/
def m_7_14 : List am_B := [
  (false, [(.aload_n 0, []), (.getfield 138, [7, 24, 3]), (.ifCond .eq 12, [1]), (.aload_n 0, []), (.getfield 56, [7, 3, 1]), (.iload_n 1, []), (.iload_n 2, []), (.invokevirtual 162, [1, 16, 3, 3, 0, 0, 1]), (.nop, [1])]),
  (false, [(.return_, [])])]
/-- TowerComputer$Compiler.pop(II)V -/
def m_7_15 : List am_B := [
  (false, [(.aload_n 0, []), (.getfield 138, [7, 24, 3]), (.ifCond .eq 12, [1]), (.aload_n 0, []), (.getfield 56, [7, 3, 1]), (.iload_n 1, []), (.iload_n 2, []), (.invokevirtual 167, [1, 16, 4, 3, 0, 0, 1]), (.nop, [1])]),
  (false, [(.return_, [])])]
/-- TowerComputer$Compiler.op(I)V -/
def m_7_16 : List am_B := [
  (false, [(.aload_n 0, []), (.getfield 138, [7, 24, 3]), (.ifCond .eq 11, [1]), (.aload_n 0, []), (.getfield 56, [7, 3, 1]), (.iload_n 1, []), (.invokevirtual 170, [1, 16, 2, 2, 0, 0, 1]), (.nop, [1])]),
  (false, [(.return_, [])])]
/-- TowerComputer$Compiler.add(III)V -/
def m_7_17 : List am_B := [
  (false, [(.aload_n 0, []), (.getfield 138, [7, 24, 3]), (.ifCond .eq 13, [1]), (.aload_n 0, []), (.getfield 56, [7, 3, 1]), (.iload_n 1, []), (.iload_n 2, []), (.iload_n 3, []), (.invokevirtual 174, [1, 16, 1, 4, 0, 0, 1]), (.nop, [1])]),
  (false, [(.return_, [])])]
/-- TowerComputer$Compiler.label()I -/
def m_7_18 : List am_B := [
  (false, [(.aload_n 0, []), (.getfield 138, [7, 24, 3]), (.ifCond .eq 13, [1]), (.aload_n 0, []), (.getfield 56, [7, 3, 1]), (.invokevirtual 178, [1, 16, 5, 1, 1, 0, 1]), (.goto 4, [2])]),
  (false, [(.iconst 0, []), (.nop, [2])]),
  (false, [(.ireturn, [])])]
/-- TowerComputer$Compiler.tell(III)V -/
def m_7_19 : List am_B := [
  (false, [(.aload_n 0, []), (.getfield 138, [7, 24, 3]), (.ifCond .eq 20, [1]), (.aload_n 0, []), (.getfield 142, [7, 23, 3]), (.ifCond .ne 13, [1]), (.aload_n 0, []), (.getfield 38, [7, 19, 1]), (.iload_n 1, []), (.iload_n 2, []), (.iload_n 3, []), (.invokevirtual 181, [1, 8, 1, 4, 0, 0, 1]), (.nop, [1])]),
  (false, [(.return_, [])])]
/-- TowerComputer$Compiler.tellCall(III)V -/
def m_7_20 : List am_B := [
  (false, [(.aload_n 0, []), (.getfield 138, [7, 24, 3]), (.ifCond .eq 37, [1]), (.aload_n 0, []), (.getfield 142, [7, 23, 3]), (.ifCond .ne 30, [1]), (.aload_n 0, []), (.getfield 38, [7, 19, 1]), (.bipush 15, []), (.aload_n 0, []), (.getfield 21, [7, 2, 1]), (.getfield 182, [12, 4, 1]), (.aload_n 0, []), (.getfield 21, [7, 2, 1]), (.iload_n 1, []), (.iload_n 2, []), (.invokevirtual 185, [1, 12, 1, 3, 1, 0, 1]), (.iaload, []), (.iload_n 3, []), (.invokevirtual 181, [1, 8, 1, 4, 0, 0, 1]), (.nop, [1])]),
  (false, [(.return_, [])])]
/-- TowerComputer$Compiler.tellLabels()I -/
def m_7_21 : List am_B := [
  (false, [(.aload_n 0, []), (.getfield 38, [7, 19, 1]), (.dup, []), (.getfield 189, [8, 4, 0]), (.iconst 2, []), (.iadd, []), (.putfield 189, [8, 4, 0]), (.aload_n 0, []), (.getfield 38, [7, 19, 1]), (.getfield 189, [8, 4, 0]), (.iconst 2, []), (.isub, []), (.ireturn, [])])]
/-- TowerComputer$Compiler.tellVariable(II)V -/
def m_7_22 : List am_B := [
  (false, [(.aload_n 0, []), (.getfield 138, [7, 24, 3]), (.ifCond .eq 10, [1]), (.aload_n 0, []), (.getfield 142, [7, 23, 3]), (.ifCond .eq 4, [2]), (.nop, [1])]),
  (false, [(.return_, [])]),
  (false, [(.aload_n 0, []), (.getfield 32, [7, 7, 1]), (.iload_n 2, []), (.invokevirtual 192, [1, 15, 1, 2, 1, 0, 1]), (.iconst (-1), []), (.if_icmp .eq 10, [3]), (.aload_n 0, []), (.getfield 32, [7, 7, 1]), (.goto 7, [4])]),
  (false, [(.aload_n 0, []), (.getfield 28, [7, 6, 1]), (.nop, [4])]),
  (true, [(.astore_n 3, []), (.aload_n 3, []), (.iload_n 2, []), (.invokevirtual 192, [1, 15, 1, 2, 1, 0, 1]), (.istore 4, []), (.aload_n 3, []), (.getfield 195, [15, 1, 1]), (.iload 4, []), (.iaload, []), (.iconst 1, []), (.if_icmp .ne 7, [5]), (.iconst 1, []), (.goto 34, [8])]),
  (false, [(.aload_n 3, []), (.getfield 195, [15, 1, 1]), (.iload 4, []), (.iaload, []), (.iconst 2, []), (.if_icmp .ne 7, [6]), (.iconst 2, []), (.goto 19, [8])]),
  (false, [(.aload_n 3, []), (.getfield 195, [15, 1, 1]), (.iload 4, []), (.iaload, []), (.iconst 4, []), (.if_icmp .ne 7, [7]), (.iconst 4, []), (.goto 4, [8])]),
  (false, [(.iconst 3, []), (.nop, [8])]),
  (false, [(.istore 5, []), (.aload_n 0, []), (.getfield 38, [7, 19, 1]), (.iload_n 1, []), (.iload 5, []), (.aload_n 3, []), (.getfield 197, [15, 4, 1]), (.iload 4, []), (.iaload, []), (.invokevirtual 181, [1, 8, 1, 4, 0, 0, 1]), (.return_, [])])]
/-- TowerComputer$Compiler.tellUnless(I)V -/
def m_7_23 : List am_B := [
  (false, [(.aload_n 0, []), (.iconst 0, []), (.iconst 0, []), (.iconst 0, []), (.invokevirtual 198, [1, 7, 19, 4, 0, 0, 1]), (.aload_n 0, []), (.bipush 8, []), (.iconst 0, []), (.iconst 0, []), (.invokevirtual 198, [1, 7, 19, 4, 0, 0, 1]), (.aload_n 0, []), (.bipush 13, []), (.iload_n 1, []), (.iconst 0, []), (.invokevirtual 198, [1, 7, 19, 4, 0, 0, 1]), (.return_, [])])]
/-- TowerComputer$Compiler.tellElement()V -/
def m_7_24 : List am_B := [
  (false, [(.aload_n 0, []), (.iconst 1, []), (.bipush 6, []), (.iconst 1, []), (.invokevirtual 198, [1, 7, 19, 4, 0, 0, 1]), (.aload_n 0, []), (.iconst 0, []), (.iconst 5, []), (.iconst 0, []), (.invokevirtual 198, [1, 7, 19, 4, 0, 0, 1]), (.return_, [])])]
/-- TowerComputer$Compiler.call(III)V -/
def m_7_25 : List am_B := [
  (false, [(.aload_n 0, []), (.getfield 138, [7, 24, 3]), (.ifCond .eq 22, [1]), (.aload_n 0, []), (.getfield 56, [7, 3, 1]), (.bipush 15, []), (.aload_n 0, []), (.getfield 21, [7, 2, 1]), (.iload_n 1, []), (.iload_n 2, []), (.invokevirtual 185, [1, 12, 1, 3, 1, 0, 1]), (.iload_n 3, []), (.invokevirtual 174, [1, 16, 1, 4, 0, 0, 1]), (.nop, [1])]),
  (false, [(.return_, [])])]
/-- TowerComputer$Compiler.read(IZ)I -/
def m_7_26 : List am_B := [
  (false, [(.aload_n 0, []), (.iload_n 2, []), (.putfield 142, [7, 23, 3]), (.aload_n 0, []), (.iconst 0, []), (.putfield 125, [7, 9, 0]), (.aload_n 0, []), (.iconst (-1), []), (.putfield 128, [7, 10, 0]), (.aload_n 0, []), (.aload_n 0, []), (.getfield 12, [7, 1, 1]), (.getfield 201, [6, 3, 0]), (.putfield 204, [7, 20, 0]), (.aload_n 0, []), (.aload_n 0, []), (.getfield 21, [7, 2, 1]), (.getfield 207, [12, 5, 0]), (.putfield 208, [7, 21, 0]), (.aload_n 0, []), (.aload_n 0, []), (.getfield 211, [7, 15, 0]), (.putfield 214, [7, 22, 0]), (.aload_n 0, []), (.getfield 69, [7, 5, 1]), (.iload_n 1, []), (.iload_n 2, []), (.ifCond .eq 9, [1]), (.sipush 4498, []), (.goto 6, [2])]),
  (false, [(.sipush 1000, []), (.nop, [2])]),
  (false, [(.invokevirtual 217, [1, 13, 7, 3, 0, 0, 1]), (.iconst 0, []), (.istore_n 3, []), (.nop, [3])]),
  (true, [(.iload_n 3, []), (.iconst 2, []), (.if_icmp .ge 27, [6]), (.aload_n 0, []), (.iload_n 3, []), (.iconst 1, []), (.if_icmp .ne 7, [4]), (.iconst 1, []), (.goto 4, [5])]),
  (false, [(.iconst 0, []), (.nop, [5])]),
  (false, [(.putfield 138, [7, 24, 3]), (.aload_n 0, []), (.invokevirtual 220, [1, 7, 29, 1, 0, 9, 1]), (.iinc 3 1, []), (.goto (-26), [3])]),
  (false, [(.iload_n 2, []), (.ifCond .ne 7, [7]), (.aload_n 0, []), (.invokevirtual 223, [1, 7, 30, 1, 0, 9, 1]), (.nop, [7])]),
  (false, [(.goto 9, [9])]),
  (true, [(.astore_n 3, []), (.aload_n 0, []), (.getfield 125, [7, 9, 0]), (.ireturn, [])]),
  (false, [(.iconst 0, []), (.ireturn, [])])]
/-- TowerComputer$Compiler.begin([I)V -/
def m_7_27 : List am_B := [
  (false, [(.aload_n 0, []), (.iconst 1, []), (.putfield 138, [7, 24, 3]), (.aload_n 0, []), (.aload_n 0, []), (.getfield 12, [7, 1, 1]), (.aload_n 0, []), (.getfield 80, [7, 28, 0]), (.invokevirtual 226, [1, 6, 1, 2, 1, 0, 1]), (.aload_n 1, []), (.bipush 10, []), (.iaload, []), (.iconst 0, []), (.invokevirtual 227, [1, 7, 25, 4, 0, 0, 1]), (.aload_n 0, []), (.iconst 5, []), (.iconst 0, []), (.invokevirtual 230, [1, 7, 15, 3, 0, 0, 1]), (.aload_n 0, []), (.aload_n 0, []), (.getfield 12, [7, 1, 1]), (.aload_n 1, []), (.bipush 11, []), (.iaload, []), (.invokevirtual 226, [1, 6, 1, 2, 1, 0, 1]), (.aload_n 1, []), (.bipush 10, []), (.iaload, []), (.iconst 0, []), (.invokevirtual 227, [1, 7, 25, 4, 0, 0, 1]), (.aload_n 0, []), (.iconst 5, []), (.iconst 0, []), (.invokevirtual 230, [1, 7, 15, 3, 0, 0, 1]), (.aload_n 0, []), (.aload_n 0, []), (.aload_n 0, []), (.getfield 73, [7, 26, 0]), (.invokevirtual 231, [1, 7, 31, 2, 1, 0, 1]), (.aload_n 0, []), (.getfield 77, [7, 27, 0]), (.iconst 0, []), (.invokevirtual 227, [1, 7, 25, 4, 0, 0, 1]), (.aload_n 0, []), (.iconst 5, []), (.iconst 0, []), (.invokevirtual 230, [1, 7, 15, 3, 0, 0, 1]), (.aload_n 0, []), (.aload_n 0, []), (.getfield 12, [7, 1, 1]), (.aload_n 1, []), (.bipush 12, []), (.iaload, []), (.invokevirtual 226, [1, 6, 1, 2, 1, 0, 1]), (.aload_n 1, []), (.bipush 13, []), (.iaload, []), (.iconst 0, []), (.invokevirtual 227, [1, 7, 25, 4, 0, 0, 1]), (.return_, [])])]
/-- TowerComputer$Compiler.forget()V -/
def m_7_28 : List am_B := [
  (false, [(.aload_n 0, []), (.getfield 12, [7, 1, 1]), (.aload_n 0, []), (.getfield 204, [7, 20, 0]), (.putfield 201, [6, 3, 0]), (.aload_n 0, []), (.getfield 21, [7, 2, 1]), (.aload_n 0, []), (.getfield 208, [7, 21, 0]), (.putfield 207, [12, 5, 0]), (.aload_n 0, []), (.aload_n 0, []), (.getfield 214, [7, 22, 0]), (.putfield 211, [7, 15, 0]), (.return_, [])])]
/-- TowerComputer$Compiler.program()V -/
def m_7_29 : List am_B := [
  (false, [(.aload_n 0, []), (.iconst 0, []), (.putfield 107, [7, 8, 0]), (.aload_n 0, []), (.iconst 0, []), (.putfield 156, [7, 11, 0]), (.aload_n 0, []), (.iconst 0, []), (.putfield 234, [7, 12, 0]), (.aload_n 0, []), (.getfield 38, [7, 19, 1]), (.iconst 0, []), (.putfield 237, [8, 3, 0]), (.aload_n 0, []), (.aload_n 0, []), (.getfield 214, [7, 22, 0]), (.putfield 211, [7, 15, 0]), (.aload_n 0, []), (.aload_n 0, []), (.getfield 208, [7, 21, 0]), (.putfield 240, [7, 16, 0]), (.aload_n 0, []), (.aload_n 0, []), (.getfield 204, [7, 20, 0]), (.putfield 243, [7, 17, 0]), (.aload_n 0, []), (.aload_n 0, []), (.invokevirtual 118, [1, 7, 1, 1, 1, 0, 1]), (.bipush 6, []), (.if_icmp .eq 7, [1]), (.iconst 1, []), (.goto 4, [2])]),
  (false, [(.iconst 0, []), (.nop, [2])]),
  (false, [(.invokevirtual 149, [1, 7, 7, 2, 0, 0, 1]), (.nop, [3])]),
  (true, [(.aload_n 0, []), (.invokevirtual 118, [1, 7, 1, 1, 1, 0, 1]), (.ifCond .eq 28, [4]), (.aload_n 0, []), (.aload_n 0, []), (.getfield 243, [7, 17, 0]), (.putfield 246, [7, 13, 0]), (.aload_n 0, []), (.dup, []), (.getfield 243, [7, 17, 0]), (.iconst 1, []), (.iadd, []), (.putfield 243, [7, 17, 0]), (.aload_n 0, []), (.invokevirtual 249, [1, 7, 34, 1, 0, 0, 1]), (.goto (-29), [3])]),
  (false, [(.return_, [])])]
/-- TowerComputer$Compiler.start()V -/
def m_7_30 : List am_B := [
  (false, [(.aload_n 0, []), (.aload_n 0, []), (.getfield 73, [7, 26, 0]), (.invokevirtual 231, [1, 7, 31, 2, 1, 0, 1]), (.istore_n 1, []), (.iload_n 1, []), (.iconst (-1), []), (.if_icmp .ne 7, [1]), (.iconst (-1), []), (.goto 15, [2])]),
  (false, [(.aload_n 0, []), (.getfield 21, [7, 2, 1]), (.iload_n 1, []), (.aload_n 0, []), (.getfield 77, [7, 27, 0]), (.invokevirtual 185, [1, 12, 1, 3, 1, 0, 1]), (.nop, [2])]),
  (true, [(.istore_n 2, []), (.iload_n 2, []), (.iconst (-1), []), (.if_icmp .eq 28, [3]), (.aload_n 0, []), (.getfield 21, [7, 2, 1]), (.getfield 252, [12, 2, 1]), (.iload_n 2, []), (.iaload, []), (.iconst 2, []), (.if_icmp .ne 15, [3]), (.aload_n 0, []), (.getfield 21, [7, 2, 1]), (.getfield 255, [12, 3, 1]), (.iload_n 2, []), (.iaload, []), (.ifCond .eq 16, [4]), (.nop, [3])]),
  (false, [(.aload_n 0, []), (.bipush 7, []), (.aload_n 0, []), (.getfield 69, [7, 5, 1]), (.getfield 258, [13, 6, 0]), (.invokevirtual 134, [1, 7, 6, 3, 0, 0, 1]), (.nop, [4])]),
  (false, [(.return_, [])])]
/-- TowerComputer$Compiler.own(I)I -/
def m_7_31 : List am_B := [
  (false, [(.aload_n 0, []), (.getfield 204, [7, 20, 0]), (.istore_n 2, []), (.nop, [1])]),
  (true, [(.iload_n 2, []), (.aload_n 0, []), (.getfield 12, [7, 1, 1]), (.getfield 201, [6, 3, 0]), (.if_icmp .ge 24, [3]), (.aload_n 0, []), (.getfield 12, [7, 1, 1]), (.getfield 261, [6, 0, 1]), (.iload_n 2, []), (.iaload, []), (.iload_n 1, []), (.if_icmp .ne 5, [2]), (.iload_n 2, []), (.ireturn, [])]),
  (false, [(.iinc 2 1, []), (.goto (-29), [1])]),
  (false, [(.iconst (-1), []), (.ireturn, [])])]
/-- TowerComputer$Compiler.classOf(I)I -/
def m_7_32 : List am_B := [
  (false, [(.aload_n 0, []), (.getfield 142, [7, 23, 3]), (.ifCond .ne 14, [1]), (.aload_n 0, []), (.getfield 52, [7, 0, 1]), (.iload_n 1, []), (.invokevirtual 263, [1, 9, 3, 2, 1, 0, 1]), (.ifCond .ne 14, [2]), (.nop, [1])]),
  (false, [(.aload_n 0, []), (.getfield 12, [7, 1, 1]), (.iload_n 1, []), (.invokevirtual 226, [1, 6, 1, 2, 1, 0, 1]), (.goto 4, [3])]),
  (false, [(.iconst (-1), []), (.nop, [3])]),
  (true, [(.istore_n 2, []), (.iload_n 2, []), (.iconst (-1), []), (.if_icmp .eq 11, [4]), (.iload_n 2, []), (.aload_n 0, []), (.getfield 204, [7, 20, 0]), (.if_icmp .lt 11, [5]), (.nop, [4])]),
  (false, [(.aload_n 0, []), (.iload_n 1, []), (.invokevirtual 231, [1, 7, 31, 2, 1, 0, 1]), (.goto 4, [6])]),
  (false, [(.iload_n 2, []), (.nop, [6])]),
  (false, [(.ireturn, [])])]
/-- TowerComputer$Compiler.subOf(II)I -/
def m_7_33 : List am_B := [
  (false, [(.aload_n 0, []), (.getfield 142, [7, 23, 3]), (.ifCond .ne 26, [1]), (.iload_n 1, []), (.aload_n 0, []), (.getfield 204, [7, 20, 0]), (.if_icmp .ge 18, [1]), (.aload_n 0, []), (.getfield 52, [7, 0, 1]), (.iload_n 2, []), (.invokevirtual 263, [1, 9, 3, 2, 1, 0, 1]), (.ifCond .eq 7, [1]), (.iconst (-1), []), (.goto 12, [2])]),
  (false, [(.aload_n 0, []), (.getfield 21, [7, 2, 1]), (.iload_n 1, []), (.iload_n 2, []), (.invokevirtual 185, [1, 12, 1, 3, 1, 0, 1]), (.nop, [2])]),
  (false, [(.ireturn, [])])]
/-- TowerComputer$Compiler.oneClass()V -/
def m_7_34 : List am_B := [
  (false, [(.aload_n 0, []), (.aload_n 0, []), (.iconst 0, []), (.invokevirtual 268, [1, 7, 5, 2, 1, 0, 1]), (.invokevirtual 149, [1, 7, 7, 2, 0, 0, 1]), (.aload_n 0, []), (.invokevirtual 153, [1, 7, 10, 1, 0, 0, 1]), (.aload_n 0, []), (.aload_n 0, []), (.invokevirtual 118, [1, 7, 1, 1, 1, 0, 1]), (.iconst 2, []), (.if_icmp .ne 7, [1]), (.iconst 1, []), (.goto 4, [2])]),
  (false, [(.iconst 0, []), (.nop, [2])]),
  (true, [(.invokevirtual 149, [1, 7, 7, 2, 0, 0, 1]), (.aload_n 0, []), (.aload_n 0, []), (.getfield 142, [7, 23, 3]), (.ifCond .ne 17, [3]), (.aload_n 0, []), (.getfield 246, [7, 13, 0]), (.aload_n 0, []), (.getfield 204, [7, 20, 0]), (.isub, []), (.bipush 12, []), (.if_icmp .ge 7, [4]), (.nop, [3])]),
  (false, [(.iconst 1, []), (.goto 4, [5])]),
  (false, [(.iconst 0, []), (.nop, [5])]),
  (true, [(.invokevirtual 159, [1, 7, 8, 2, 0, 0, 1]), (.aload_n 0, []), (.getfield 138, [7, 24, 3]), (.ifCond .eq 74, [9]), (.aload_n 0, []), (.aload_n 0, []), (.getfield 12, [7, 1, 1]), (.aload_n 0, []), (.invokevirtual 122, [1, 7, 2, 1, 1, 0, 1]), (.invokevirtual 226, [1, 6, 1, 2, 1, 0, 1]), (.aload_n 0, []), (.getfield 246, [7, 13, 0]), (.if_icmp .eq 39, [6]), (.aload_n 0, []), (.getfield 142, [7, 23, 3]), (.ifCond .ne 36, [7]), (.aload_n 0, []), (.getfield 52, [7, 0, 1]), (.aload_n 0, []), (.invokevirtual 122, [1, 7, 2, 1, 1, 0, 1]), (.invokevirtual 263, [1, 9, 3, 2, 1, 0, 1]), (.ifCond .eq 22, [7]), (.aload_n 0, []), (.aload_n 0, []), (.invokevirtual 122, [1, 7, 2, 1, 1, 0, 1]), (.invokevirtual 231, [1, 7, 31, 2, 1, 0, 1]), (.aload_n 0, []), (.getfield 246, [7, 13, 0]), (.if_icmp .ne 7, [7]), (.nop, [6])]),
  (false, [(.iconst 1, []), (.goto 4, [8])]),
  (false, [(.iconst 0, []), (.nop, [8])]),
  (false, [(.iconst 3, []), (.aload_n 0, []), (.invokevirtual 131, [1, 7, 3, 1, 1, 0, 1]), (.invokevirtual 271, [1, 7, 9, 4, 0, 0, 1]), (.goto 49, [13])]),
  (false, [(.aload_n 0, []), (.getfield 12, [7, 1, 1]), (.aload_n 0, []), (.invokevirtual 122, [1, 7, 2, 1, 1, 0, 1]), (.invokevirtual 275, [1, 6, 2, 2, 0, 0, 1]), (.aload_n 0, []), (.getfield 12, [7, 1, 1]), (.getfield 277, [6, 1, 1]), (.aload_n 0, []), (.getfield 246, [7, 13, 0]), (.aload_n 0, []), (.getfield 142, [7, 23, 3]), (.ifCond .eq 14, [10]), (.aload_n 0, []), (.aload_n 0, []), (.invokevirtual 122, [1, 7, 2, 1, 1, 0, 1]), (.invokevirtual 281, [1, 7, 35, 2, 1, 0, 1]), (.ifCond .eq 7, [11]), (.nop, [10])]),
  (false, [(.iconst 1, []), (.goto 4, [12])]),
  (false, [(.iconst 0, []), (.nop, [12])]),
  (false, [(.bastore, [4]), (.nop, [13])]),
  (true, [(.aload_n 0, []), (.invokevirtual 153, [1, 7, 10, 1, 0, 0, 1]), (.aload_n 0, []), (.bipush 123, []), (.invokevirtual 284, [1, 7, 11, 2, 0, 0, 1]), (.aload_n 0, []), (.dup, []), (.getfield 156, [7, 11, 0]), (.iconst 1, []), (.iadd, []), (.putfield 156, [7, 11, 0]), (.aload_n 0, []), (.getfield 28, [7, 6, 1]), (.iconst 0, []), (.putfield 287, [15, 5, 0]), (.aload_n 0, []), (.aload_n 0, []), (.getfield 240, [7, 16, 0]), (.putfield 288, [7, 18, 0]), (.iconst 0, []), (.istore_n 1, []), (.iconst 0, []), (.istore_n 2, []), (.nop, [14])]),
  (true, [(.aload_n 0, []), (.iconst 5, []), (.invokevirtual 268, [1, 7, 5, 2, 1, 0, 1]), (.ifCond .ne 11, [15]), (.aload_n 0, []), (.iconst 4, []), (.invokevirtual 268, [1, 7, 5, 2, 1, 0, 1]), (.ifCond .eq 224, [36]), (.nop, [15])]),
  (false, [(.aload_n 0, []), (.iconst 4, []), (.invokevirtual 268, [1, 7, 5, 2, 1, 0, 1]), (.istore_n 3, []), (.aload_n 0, []), (.invokevirtual 153, [1, 7, 10, 1, 0, 0, 1]), (.aload_n 0, []), (.invokevirtual 291, [1, 7, 36, 1, 1, 0, 1]), (.istore 4, []), (.iconst 1, []), (.istore 5, []), (.nop, [16])]),
  (true, [(.iload 5, []), (.ifCond .eq 191, [35]), (.aload_n 0, []), (.aload_n 0, []), (.invokevirtual 118, [1, 7, 1, 1, 1, 0, 1]), (.iconst 2, []), (.if_icmp .ne 7, [17]), (.iconst 1, []), (.goto 4, [18])]),
  (false, [(.iconst 0, []), (.nop, [18])]),
  (true, [(.invokevirtual 149, [1, 7, 7, 2, 0, 0, 1]), (.aload_n 0, []), (.aload_n 0, []), (.getfield 142, [7, 23, 3]), (.ifCond .ne 30, [20]), (.iload_n 3, []), (.ifCond .eq 12, [19]), (.iload_n 1, []), (.bipush 12, []), (.if_icmp .ge 24, [21]), (.goto 17, [20])]),
  (false, [(.aload_n 0, []), (.getfield 211, [7, 15, 0]), (.aload_n 0, []), (.getfield 214, [7, 22, 0]), (.isub, []), (.bipush 12, []), (.if_icmp .ge 7, [21]), (.nop, [20])]),
  (false, [(.iconst 1, []), (.goto 4, [22])]),
  (false, [(.iconst 0, []), (.nop, [22])]),
  (true, [(.invokevirtual 159, [1, 7, 8, 2, 0, 0, 1]), (.aload_n 0, []), (.aload_n 0, []), (.getfield 28, [7, 6, 1]), (.aload_n 0, []), (.invokevirtual 122, [1, 7, 2, 1, 1, 0, 1]), (.invokevirtual 192, [1, 15, 1, 2, 1, 0, 1]), (.iconst (-1), []), (.if_icmp .ne 7, [23]), (.iconst 1, []), (.goto 4, [24])]),
  (false, [(.iconst 0, []), (.nop, [24])]),
  (true, [(.iconst 3, []), (.aload_n 0, []), (.invokevirtual 131, [1, 7, 3, 1, 1, 0, 1]), (.invokevirtual 271, [1, 7, 9, 4, 0, 0, 1]), (.aload_n 0, []), (.getfield 28, [7, 6, 1]), (.aload_n 0, []), (.invokevirtual 122, [1, 7, 2, 1, 1, 0, 1]), (.iload_n 3, []), (.ifCond .eq 7, [25]), (.iconst 4, []), (.goto 4, [26])]),
  (false, [(.iconst 3, []), (.nop, [26])]),
  (true, [(.iload_n 3, []), (.ifCond .eq 7, [27]), (.iload_n 1, []), (.goto 7, [28])]),
  (false, [(.aload_n 0, []), (.getfield 211, [7, 15, 0]), (.nop, [28])]),
  (false, [(.iload 4, []), (.iload_n 3, []), (.ifCond .eq 7, [29]), (.iload_n 1, []), (.goto 4, [30])]),
  (false, [(.iload_n 2, []), (.nop, [30])]),
  (true, [(.invokevirtual 294, [1, 15, 2, 6, 0, 0, 1]), (.iload_n 3, []), (.ifCond .eq 9, [31]), (.iinc 1 1, []), (.goto 13, [32])]),
  (false, [(.aload_n 0, []), (.dup, []), (.getfield 211, [7, 15, 0]), (.iconst 1, []), (.iadd, []), (.putfield 211, [7, 15, 0]), (.nop, [32])]),
  (false, [(.iload_n 2, []), (.iload_n 3, []), (.ifCond .eq 7, [33]), (.iconst 0, []), (.goto 4, [34])]),
  (false, [(.iconst 1, []), (.nop, [34])]),
  (true, [(.iadd, []), (.istore_n 2, []), (.aload_n 0, []), (.invokevirtual 153, [1, 7, 10, 1, 0, 0, 1]), (.aload_n 0, []), (.bipush 44, []), (.invokevirtual 145, [1, 7, 4, 2, 1, 0, 1]), (.istore 5, []), (.iload 5, []), (.ifCond .eq (-183), [16]), (.aload_n 0, []), (.invokevirtual 153, [1, 7, 10, 1, 0, 0, 1]), (.goto (-190), [16])]),
  (false, [(.aload_n 0, []), (.bipush 59, []), (.invokevirtual 284, [1, 7, 11, 2, 0, 0, 1]), (.goto (-234), [14])]),
  (false, [(.aload_n 0, []), (.getfield 12, [7, 1, 1]), (.getfield 297, [6, 2, 1]), (.aload_n 0, []), (.getfield 246, [7, 13, 0]), (.iload_n 1, []), (.iastore, []), (.nop, [37])]),
  (true, [(.aload_n 0, []), (.iconst 1, []), (.invokevirtual 268, [1, 7, 5, 2, 1, 0, 1]), (.ifCond .ne 19, [38]), (.aload_n 0, []), (.iconst 2, []), (.invokevirtual 268, [1, 7, 5, 2, 1, 0, 1]), (.ifCond .ne 11, [38]), (.aload_n 0, []), (.iconst 3, []), (.invokevirtual 268, [1, 7, 5, 2, 1, 0, 1]), (.ifCond .eq 10, [39]), (.nop, [38])]),
  (false, [(.aload_n 0, []), (.invokevirtual 300, [1, 7, 38, 1, 0, 0, 1]), (.goto (-28), [37])]),
  (false, [(.aload_n 0, []), (.bipush 125, []), (.invokevirtual 284, [1, 7, 11, 2, 0, 0, 1]), (.aload_n 0, []), (.dup, []), (.getfield 156, [7, 11, 0]), (.iconst 1, []), (.isub, []), (.putfield 156, [7, 11, 0]), (.return_, [])])]
/-- TowerComputer$Compiler.isGuarded(I)Z -/
def m_7_35 : List am_B := [
  (false, [(.iload_n 1, []), (.aload_n 0, []), (.getfield 86, [7, 30, 0]), (.if_icmp .eq 14, [1]), (.aload_n 0, []), (.getfield 52, [7, 0, 1]), (.iload_n 1, []), (.invokevirtual 263, [1, 9, 3, 2, 1, 0, 1]), (.ifCond .eq 7, [2]), (.nop, [1])]),
  (false, [(.iconst 1, []), (.goto 4, [3])]),
  (false, [(.iconst 0, []), (.nop, [3])]),
  (false, [(.ireturn, [1])])]
/-- TowerComputer$Compiler.type()I -/
def m_7_36 : List am_B := [
  (false, [(.aload_n 0, []), (.bipush 7, []), (.invokevirtual 268, [1, 7, 5, 2, 1, 0, 1]), (.ifCond .ne 21, [1]), (.aload_n 0, []), (.bipush 8, []), (.invokevirtual 268, [1, 7, 5, 2, 1, 0, 1]), (.ifCond .ne 12, [1]), (.aload_n 0, []), (.bipush 9, []), (.invokevirtual 268, [1, 7, 5, 2, 1, 0, 1]), (.ifCond .eq 7, [2]), (.nop, [1])]),
  (false, [(.iconst 1, []), (.goto 4, [3])]),
  (false, [(.iconst 0, []), (.nop, [3])]),
  (true, [(.istore_n 1, []), (.aload_n 0, []), (.iload_n 1, []), (.ifCond .ne 11, [4]), (.aload_n 0, []), (.invokevirtual 118, [1, 7, 1, 1, 1, 0, 1]), (.iconst 2, []), (.if_icmp .ne 7, [5]), (.nop, [4])]),
  (false, [(.iconst 1, []), (.goto 4, [6])]),
  (false, [(.iconst 0, []), (.nop, [6])]),
  (false, [(.invokevirtual 149, [1, 7, 7, 2, 0, 0, 1]), (.iload_n 1, []), (.ifCond .eq 7, [7]), (.iconst (-1), []), (.goto 11, [8])]),
  (false, [(.aload_n 0, []), (.aload_n 0, []), (.invokevirtual 122, [1, 7, 2, 1, 1, 0, 1]), (.invokevirtual 303, [1, 7, 32, 2, 1, 0, 1]), (.nop, [8])]),
  (true, [(.istore_n 2, []), (.aload_n 0, []), (.iload_n 1, []), (.ifCond .ne 8, [9]), (.iload_n 2, []), (.iconst (-1), []), (.if_icmp .eq 7, [10]), (.nop, [9])]),
  (false, [(.iconst 1, []), (.goto 4, [11])]),
  (false, [(.iconst 0, []), (.nop, [11])]),
  (false, [(.iconst 4, []), (.aload_n 0, []), (.invokevirtual 131, [1, 7, 3, 1, 1, 0, 1]), (.invokevirtual 271, [1, 7, 9, 4, 0, 0, 1]), (.aload_n 0, []), (.invokevirtual 153, [1, 7, 10, 1, 0, 0, 1]), (.iload_n 2, []), (.ireturn, [])])]
/-- TowerComputer$Compiler.variable(III)V -/
def m_7_37 : List am_B := [
  (false, [(.aload_n 0, []), (.aload_n 0, []), (.invokevirtual 118, [1, 7, 1, 1, 1, 0, 1]), (.iconst 2, []), (.if_icmp .ne 7, [1]), (.iconst 1, []), (.goto 4, [2])]),
  (false, [(.iconst 0, []), (.nop, [2])]),
  (true, [(.invokevirtual 149, [1, 7, 7, 2, 0, 0, 1]), (.aload_n 0, []), (.aload_n 0, []), (.getfield 142, [7, 23, 3]), (.ifCond .ne 9, [3]), (.iload_n 3, []), (.bipush 12, []), (.if_icmp .ge 7, [4]), (.nop, [3])]),
  (false, [(.iconst 1, []), (.goto 4, [5])]),
  (false, [(.iconst 0, []), (.nop, [5])]),
  (true, [(.invokevirtual 159, [1, 7, 8, 2, 0, 0, 1]), (.aload_n 0, []), (.aload_n 0, []), (.getfield 32, [7, 7, 1]), (.aload_n 0, []), (.invokevirtual 122, [1, 7, 2, 1, 1, 0, 1]), (.invokevirtual 192, [1, 15, 1, 2, 1, 0, 1]), (.iconst (-1), []), (.if_icmp .ne 7, [6]), (.iconst 1, []), (.goto 4, [7])]),
  (false, [(.iconst 0, []), (.nop, [7])]),
  (true, [(.iconst 3, []), (.aload_n 0, []), (.invokevirtual 131, [1, 7, 3, 1, 1, 0, 1]), (.invokevirtual 271, [1, 7, 9, 4, 0, 0, 1]), (.iload_n 1, []), (.iconst 1, []), (.if_icmp .ne 17, [8]), (.aload_n 0, []), (.getfield 306, [7, 14, 0]), (.iconst 3, []), (.if_icmp .ne 9, [8]), (.iload_n 3, []), (.iconst 1, []), (.iadd, []), (.goto 4, [9])]),
  (false, [(.iload_n 3, []), (.nop, [9])]),
  (true, [(.istore 4, []), (.aload_n 0, []), (.getfield 32, [7, 7, 1]), (.aload_n 0, []), (.invokevirtual 122, [1, 7, 2, 1, 1, 0, 1]), (.iload_n 1, []), (.iload 4, []), (.iload_n 2, []), (.iload 4, []), (.invokevirtual 294, [1, 15, 2, 6, 0, 0, 1]), (.aload_n 0, []), (.invokevirtual 153, [1, 7, 10, 1, 0, 0, 1]), (.return_, [])])]
/-- TowerComputer$Compiler.oneSub()V -/
def m_7_38 : List am_B := [
  (false, [(.aload_n 0, []), (.aload_n 0, []), (.invokevirtual 122, [1, 7, 2, 1, 1, 0, 1]), (.putfield 306, [7, 14, 0]), (.aload_n 0, []), (.invokevirtual 153, [1, 7, 10, 1, 0, 0, 1]), (.aload_n 0, []), (.bipush 10, []), (.invokevirtual 268, [1, 7, 5, 2, 1, 0, 1]), (.ifCond .eq 10, [1]), (.aload_n 0, []), (.invokevirtual 153, [1, 7, 10, 1, 0, 0, 1]), (.goto 8, [2])]),
  (false, [(.aload_n 0, []), (.invokevirtual 291, [1, 7, 36, 1, 1, 0, 1]), (.pop, []), (.nop, [2])]),
  (false, [(.aload_n 0, []), (.aload_n 0, []), (.invokevirtual 118, [1, 7, 1, 1, 1, 0, 1]), (.iconst 2, []), (.if_icmp .ne 7, [3]), (.iconst 1, []), (.goto 4, [4])]),
  (false, [(.iconst 0, []), (.nop, [4])]),
  (true, [(.invokevirtual 149, [1, 7, 7, 2, 0, 0, 1]), (.aload_n 0, []), (.aload_n 0, []), (.getfield 142, [7, 23, 3]), (.ifCond .ne 17, [5]), (.aload_n 0, []), (.getfield 240, [7, 16, 0]), (.aload_n 0, []), (.getfield 208, [7, 21, 0]), (.isub, []), (.bipush 60, []), (.if_icmp .ge 7, [6]), (.nop, [5])]),
  (false, [(.iconst 1, []), (.goto 4, [7])]),
  (false, [(.iconst 0, []), (.nop, [7])]),
  (true, [(.invokevirtual 159, [1, 7, 8, 2, 0, 0, 1]), (.aload_n 0, []), (.aload_n 0, []), (.getfield 21, [7, 2, 1]), (.aload_n 0, []), (.getfield 246, [7, 13, 0]), (.aload_n 0, []), (.invokevirtual 122, [1, 7, 2, 1, 1, 0, 1]), (.invokevirtual 185, [1, 12, 1, 3, 1, 0, 1]), (.aload_n 0, []), (.getfield 240, [7, 16, 0]), (.if_icmp .ne 7, [8]), (.iconst 1, []), (.goto 4, [9])]),
  (false, [(.iconst 0, []), (.nop, [9])]),
  (true, [(.iconst 3, []), (.aload_n 0, []), (.invokevirtual 131, [1, 7, 3, 1, 1, 0, 1]), (.invokevirtual 271, [1, 7, 9, 4, 0, 0, 1]), (.aload_n 0, []), (.getfield 138, [7, 24, 3]), (.ifCond .ne 70, [12]), (.aload_n 0, []), (.getfield 21, [7, 2, 1]), (.aload_n 0, []), (.getfield 246, [7, 13, 0]), (.aload_n 0, []), (.invokevirtual 122, [1, 7, 2, 1, 1, 0, 1]), (.aload_n 0, []), (.getfield 306, [7, 14, 0]), (.invokevirtual 309, [1, 12, 2, 4, 0, 0, 1]), (.aload_n 0, []), (.getfield 21, [7, 2, 1]), (.getfield 182, [12, 4, 1]), (.aload_n 0, []), (.getfield 240, [7, 16, 0]), (.aload_n 0, []), (.getfield 142, [7, 23, 3]), (.ifCond .eq 7, [10]), (.iconst 0, []), (.goto 28, [11])]),
  (false, [(.bipush 100, []), (.bipush 8, []), (.aload_n 0, []), (.getfield 246, [7, 13, 0]), (.iadd, []), (.aload_n 0, []), (.getfield 204, [7, 20, 0]), (.isub, []), (.imul, []), (.aload_n 0, []), (.getfield 240, [7, 16, 0]), (.iadd, []), (.aload_n 0, []), (.getfield 288, [7, 18, 0]), (.isub, []), (.nop, [11])]),
  (true, [(.iastore, []), (.nop, [12])]),
  (false, [(.aload_n 0, []), (.invokevirtual 153, [1, 7, 10, 1, 0, 0, 1]), (.aload_n 0, []), (.getfield 32, [7, 7, 1]), (.iconst 0, []), (.putfield 287, [15, 5, 0]), (.aload_n 0, []), (.bipush 40, []), (.invokevirtual 284, [1, 7, 11, 2, 0, 0, 1]), (.iconst 0, []), (.istore_n 1, []), (.nop, [13])]),
  (true, [(.aload_n 0, []), (.bipush 41, []), (.invokevirtual 145, [1, 7, 4, 2, 1, 0, 1]), (.ifCond .ne 31, [15]), (.iload_n 1, []), (.ifCond .le 9, [14]), (.aload_n 0, []), (.bipush 44, []), (.invokevirtual 284, [1, 7, 11, 2, 0, 0, 1]), (.nop, [14])]),
  (false, [(.aload_n 0, []), (.invokevirtual 291, [1, 7, 36, 1, 1, 0, 1]), (.istore_n 2, []), (.aload_n 0, []), (.iconst 1, []), (.iload_n 2, []), (.iload_n 1, []), (.invokevirtual 310, [1, 7, 37, 4, 0, 0, 1]), (.iinc 1 1, []), (.goto (-34), [13])]),
  (false, [(.aload_n 0, []), (.invokevirtual 153, [1, 7, 10, 1, 0, 0, 1]), (.aload_n 0, []), (.getfield 21, [7, 2, 1]), (.getfield 255, [12, 3, 1]), (.aload_n 0, []), (.getfield 240, [7, 16, 0]), (.iload_n 1, []), (.iastore, []), (.aload_n 0, []), (.invokevirtual 313, [1, 7, 39, 1, 0, 0, 1]), (.aload_n 0, []), (.dup, []), (.getfield 240, [7, 16, 0]), (.iconst 1, []), (.iadd, []), (.putfield 240, [7, 16, 0]), (.return_, [])])]
/-- TowerComputer$Compiler.body()V -/
def m_7_39 : List am_B := [
  (false, [(.aload_n 0, []), (.aload_n 0, []), (.bipush 123, []), (.invokevirtual 145, [1, 7, 4, 2, 1, 0, 1]), (.invokevirtual 149, [1, 7, 7, 2, 0, 0, 1]), (.aload_n 0, []), (.invokevirtual 316, [1, 7, 13, 1, 0, 0, 1]), (.aload_n 0, []), (.invokevirtual 153, [1, 7, 10, 1, 0, 0, 1]), (.iconst 0, []), (.istore_n 1, []), (.nop, [1])]),
  (true, [(.aload_n 0, []), (.bipush 6, []), (.invokevirtual 268, [1, 7, 5, 2, 1, 0, 1]), (.ifCond .eq 57, [4]), (.aload_n 0, []), (.invokevirtual 153, [1, 7, 10, 1, 0, 0, 1]), (.aload_n 0, []), (.invokevirtual 291, [1, 7, 36, 1, 1, 0, 1]), (.istore_n 2, []), (.aload_n 0, []), (.iconst 2, []), (.iload_n 2, []), (.iload_n 1, []), (.invokevirtual 310, [1, 7, 37, 4, 0, 0, 1]), (.iinc 1 1, []), (.nop, [2])]),
  (true, [(.aload_n 0, []), (.bipush 44, []), (.invokevirtual 145, [1, 7, 4, 2, 1, 0, 1]), (.ifCond .eq 20, [3]), (.aload_n 0, []), (.invokevirtual 153, [1, 7, 10, 1, 0, 0, 1]), (.aload_n 0, []), (.iconst 2, []), (.iload_n 2, []), (.iload_n 1, []), (.invokevirtual 310, [1, 7, 37, 4, 0, 0, 1]), (.iinc 1 1, []), (.goto (-23), [2])]),
  (false, [(.aload_n 0, []), (.bipush 59, []), (.invokevirtual 284, [1, 7, 11, 2, 0, 0, 1]), (.goto (-60), [1])]),
  (false, [(.aload_n 0, []), (.bipush 14, []), (.aload_n 0, []), (.getfield 240, [7, 16, 0]), (.iload_n 1, []), (.invokevirtual 319, [1, 7, 17, 4, 0, 0, 1]), (.aload_n 0, []), (.bipush 14, []), (.aload_n 0, []), (.getfield 21, [7, 2, 1]), (.getfield 182, [12, 4, 1]), (.aload_n 0, []), (.getfield 240, [7, 16, 0]), (.iaload, []), (.iload_n 1, []), (.invokevirtual 198, [1, 7, 19, 4, 0, 0, 1]), (.aload_n 0, []), (.getfield 38, [7, 19, 1]), (.iconst 0, []), (.putfield 189, [8, 4, 0]), (.aload_n 0, []), (.getfield 306, [7, 14, 0]), (.iconst 3, []), (.if_icmp .ne 33, [5]), (.aload_n 0, []), (.iconst 1, []), (.iconst 0, []), (.invokevirtual 320, [1, 7, 14, 3, 0, 0, 1]), (.aload_n 0, []), (.iconst 4, []), (.iconst 0, []), (.invokevirtual 230, [1, 7, 15, 3, 0, 0, 1]), (.aload_n 0, []), (.iconst 0, []), (.iconst 1, []), (.iconst 0, []), (.invokevirtual 198, [1, 7, 19, 4, 0, 0, 1]), (.aload_n 0, []), (.iconst 1, []), (.bipush 6, []), (.iconst 0, []), (.invokevirtual 198, [1, 7, 19, 4, 0, 0, 1]), (.goto 108, [6])]),
  (false, [(.aload_n 0, []), (.getfield 306, [7, 14, 0]), (.iconst 1, []), (.if_icmp .ne 100, [6]), (.aload_n 0, []), (.iconst 0, []), (.iconst 1, []), (.aload_n 0, []), (.getfield 12, [7, 1, 1]), (.getfield 297, [6, 2, 1]), (.aload_n 0, []), (.getfield 246, [7, 13, 0]), (.iaload, []), (.invokestatic 321, [5, 0, 0, 2, 0, 0, 0]), (.invokevirtual 320, [1, 7, 14, 3, 0, 0, 1]), (.aload_n 0, []), (.aload_n 0, []), (.getfield 12, [7, 1, 1]), (.aload_n 0, []), (.getfield 80, [7, 28, 0]), (.invokevirtual 226, [1, 6, 1, 2, 1, 0, 1]), (.aload_n 0, []), (.getfield 83, [7, 29, 0]), (.iconst 1, []), (.invokevirtual 227, [1, 7, 25, 4, 0, 0, 1]), (.aload_n 0, []), (.iconst 4, []), (.iconst 0, []), (.invokevirtual 230, [1, 7, 15, 3, 0, 0, 1]), (.aload_n 0, []), (.iconst 0, []), (.iconst 0, []), (.iconst 1, []), (.aload_n 0, []), (.getfield 12, [7, 1, 1]), (.getfield 297, [6, 2, 1]), (.aload_n 0, []), (.getfield 246, [7, 13, 0]), (.iaload, []), (.invokestatic 321, [5, 0, 0, 2, 0, 0, 0]), (.invokevirtual 198, [1, 7, 19, 4, 0, 0, 1]), (.aload_n 0, []), (.aload_n 0, []), (.getfield 12, [7, 1, 1]), (.aload_n 0, []), (.getfield 80, [7, 28, 0]), (.invokevirtual 226, [1, 6, 1, 2, 1, 0, 1]), (.aload_n 0, []), (.getfield 83, [7, 29, 0]), (.iconst 1, []), (.invokevirtual 326, [1, 7, 20, 4, 0, 0, 1]), (.aload_n 0, []), (.iconst 1, []), (.bipush 6, []), (.iconst 0, []), (.invokevirtual 198, [1, 7, 19, 4, 0, 0, 1]), (.nop, [6])]),
  (false, [(.aload_n 0, []), (.invokevirtual 329, [1, 7, 40, 1, 0, 0, 1]), (.aload_n 0, []), (.aload_n 0, []), (.bipush 125, []), (.invokevirtual 145, [1, 7, 4, 2, 1, 0, 1]), (.invokevirtual 149, [1, 7, 7, 2, 0, 0, 1]), (.nop, [7])]),
  (true, [(.aload_n 0, []), (.dup, []), (.getfield 156, [7, 11, 0]), (.iconst 1, []), (.isub, []), (.putfield 156, [7, 11, 0]), (.aload_n 0, []), (.invokevirtual 153, [1, 7, 10, 1, 0, 0, 1]), (.aload_n 0, []), (.iconst 0, []), (.iconst 0, []), (.invokevirtual 320, [1, 7, 14, 3, 0, 0, 1]), (.aload_n 0, []), (.bipush 16, []), (.invokevirtual 332, [1, 7, 16, 2, 0, 0, 1]), (.aload_n 0, []), (.iconst 0, []), (.iconst 0, []), (.iconst 0, []), (.invokevirtual 198, [1, 7, 19, 4, 0, 0, 1]), (.aload_n 0, []), (.bipush 16, []), (.iconst 0, []), (.iconst 0, []), (.invokevirtual 198, [1, 7, 19, 4, 0, 0, 1]), (.return_, [])])]
