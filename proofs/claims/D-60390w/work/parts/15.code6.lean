/-- TowerComputerModel.drop(I)V -/
def m_17_85 : List am_B := [
  (false, [(.iconst 0, []), (.istore_n 2, []), (.nop, [1])]),
  (true, [(.iload_n 2, []), (.aload_n 0, []), (.getfield 695, [17, 81, 0]), (.if_icmp .ge 63, [4]), (.aload_n 0, []), (.getfield 177, [17, 82, 1]), (.iload_n 2, []), (.iaload, []), (.iload_n 1, []), (.if_icmp .eq 6, [2]), (.goto 44, [3])]),
  (false, [(.aload_n 0, []), (.aload_n 0, []), (.getfield 695, [17, 81, 0]), (.iconst 1, []), (.isub, []), (.putfield 695, [17, 81, 0]), (.aload_n 0, []), (.getfield 177, [17, 82, 1]), (.iload_n 2, []), (.aload_n 0, []), (.getfield 177, [17, 82, 1]), (.aload_n 0, []), (.getfield 695, [17, 81, 0]), (.iaload, []), (.iastore, []), (.aload_n 0, []), (.getfield 180, [17, 83, 1]), (.iload_n 2, []), (.aload_n 0, []), (.getfield 180, [17, 83, 1]), (.aload_n 0, []), (.getfield 695, [17, 81, 0]), (.iaload, []), (.iastore, []), (.return_, [])]),
  (false, [(.iinc 2 1, []), (.goto (-65), [1])]),
  (false, [(.aload_n 0, []), (.bipush 21, []), (.invokevirtual 689, [1, 17, 77, 2, 0, 0, 1]), (.return_, [])])]
/-- TowerComputerModel.root(I)I -/
def m_17_86 : List am_B := [
  (false, [(.iconst 0, []), (.istore_n 1, []), (.nop, [1])]),
  (true, [(.iload_n 1, []), (.iconst 1, []), (.iadd, []), (.iload_n 1, []), (.iconst 1, []), (.iadd, []), (.imul, []), (.iload_n 0, []), (.if_icmp .gt 10, [2]), (.iload_n 1, []), (.iconst 1, []), (.iadd, []), (.istore_n 1, []), (.goto (-15), [1])]),
  (false, [(.iload_n 1, []), (.ireturn, [])])]
/-- TowerComputerModel.print(I)V -/
def m_17_87 : List am_B := [
  (false, [(.aload_n 0, []), (.getfield 677, [17, 99, 0]), (.iconst (-1), []), (.if_icmp .ne 13, [1]), (.aload_n 0, []), (.getfield 701, [17, 106, 0]), (.sipush 3000, []), (.if_icmp .ne 4, [2]), (.nop, [1])]),
  (false, [(.return_, [])]),
  (false, [(.aload_n 0, []), (.getfield 210, [17, 105, 1]), (.aload_n 0, []), (.getfield 701, [17, 106, 0]), (.iload_n 1, []), (.sipush 255, []), (.iand, []), (.iastore, []), (.aload_n 0, []), (.aload_n 0, []), (.getfield 701, [17, 106, 0]), (.iconst 1, []), (.iadd, []), (.putfield 701, [17, 106, 0]), (.return_, [])])]
/-- TowerComputerModel.newString(I)I -/
def m_17_88 : List am_B := [
  (false, [(.iload_n 1, []), (.ifCond .ge 9, [1]), (.aload_n 0, []), (.bipush 14, []), (.invokevirtual 689, [1, 17, 77, 2, 0, 0, 1]), (.nop, [1])]),
  (true, [(.aload_n 0, []), (.getfield 677, [17, 99, 0]), (.iconst (-1), []), (.if_icmp .ne 16, [2]), (.aload_n 0, []), (.iload_n 1, []), (.iconst 2, []), (.iadd, []), (.invokestatic 683, [0, 17, 76, 1, 1, 0, 1]), (.invokevirtual 704, [1, 17, 84, 2, 1, 0, 1]), (.goto 4, [3])]),
  (false, [(.iconst 0, []), (.nop, [3])]),
  (true, [(.istore_n 2, []), (.aload_n 0, []), (.getfield 677, [17, 99, 0]), (.iconst (-1), []), (.if_icmp .eq 5, [4]), (.iconst 0, []), (.ireturn, [])]),
  (false, [(.aload_n 0, []), (.iload_n 2, []), (.iload_n 1, []), (.invokevirtual 707, [1, 17, 80, 3, 0, 0, 1]), (.aload_n 0, []), (.iload_n 2, []), (.iconst 1, []), (.iadd, []), (.iconst 0, []), (.invokevirtual 707, [1, 17, 80, 3, 0, 0, 1]), (.iload_n 2, []), (.ireturn, [])])]
/-- TowerComputerModel.append(II)V -/
def m_17_89 : List am_B := [
  (false, [(.aload_n 0, []), (.iload_n 1, []), (.iconst 1, []), (.iadd, []), (.invokevirtual 710, [1, 17, 79, 2, 1, 0, 1]), (.istore_n 3, []), (.iload_n 3, []), (.aload_n 0, []), (.iload_n 1, []), (.invokevirtual 710, [1, 17, 79, 2, 1, 0, 1]), (.if_icmp .lt 9, [1]), (.aload_n 0, []), (.bipush 17, []), (.invokevirtual 689, [1, 17, 77, 2, 0, 0, 1]), (.nop, [1])]),
  (true, [(.aload_n 0, []), (.getfield 677, [17, 99, 0]), (.iconst (-1), []), (.if_icmp .eq 4, [2]), (.return_, [])]),
  (false, [(.aload_n 0, []), (.iload_n 1, []), (.iconst 2, []), (.iadd, []), (.iload_n 3, []), (.iadd, []), (.iload_n 2, []), (.invokevirtual 707, [1, 17, 80, 3, 0, 0, 1]), (.aload_n 0, []), (.getfield 677, [17, 99, 0]), (.iconst (-1), []), (.if_icmp .ne 13, [3]), (.aload_n 0, []), (.iload_n 1, []), (.iconst 1, []), (.iadd, []), (.iload_n 3, []), (.iconst 1, []), (.iadd, []), (.invokevirtual 707, [1, 17, 80, 3, 0, 0, 1]), (.nop, [3])]),
  (false, [(.return_, [])])]
/-- TowerComputerModel.charAt(II)I -/
def m_17_90 : List am_B := [
  (false, [(.iload_n 2, []), (.ifCond .ge 9, [1]), (.aload_n 0, []), (.bipush 15, []), (.invokevirtual 689, [1, 17, 77, 2, 0, 0, 1]), (.nop, [1])]),
  (true, [(.aload_n 0, []), (.getfield 677, [17, 99, 0]), (.iconst (-1), []), (.if_icmp .ne 20, [2]), (.iload_n 2, []), (.aload_n 0, []), (.iload_n 1, []), (.iconst 1, []), (.iadd, []), (.invokevirtual 710, [1, 17, 79, 2, 1, 0, 1]), (.if_icmp .lt 9, [2]), (.aload_n 0, []), (.bipush 15, []), (.invokevirtual 689, [1, 17, 77, 2, 0, 0, 1]), (.nop, [2])]),
  (true, [(.aload_n 0, []), (.getfield 677, [17, 99, 0]), (.iconst (-1), []), (.if_icmp .ne 15, [3]), (.aload_n 0, []), (.iload_n 1, []), (.iconst 2, []), (.iadd, []), (.iload_n 2, []), (.iadd, []), (.invokevirtual 710, [1, 17, 79, 2, 1, 0, 1]), (.goto 4, [4])]),
  (false, [(.iconst 0, []), (.nop, [4])]),
  (false, [(.ireturn, [])])]
/-- TowerComputerModel.intValue(I)I -/
def m_17_91 : List am_B := [
  (false, [(.aload_n 0, []), (.iload_n 1, []), (.iconst 1, []), (.iadd, []), (.invokevirtual 710, [1, 17, 79, 2, 1, 0, 1]), (.istore_n 2, []), (.iconst 0, []), (.istore_n 3, []), (.iconst 0, []), (.istore 4, []), (.aload_n 0, []), (.getfield 677, [17, 99, 0]), (.iconst (-1), []), (.if_icmp .ne 24, [1]), (.iload_n 2, []), (.ifCond .le 20, [1]), (.aload_n 0, []), (.iload_n 1, []), (.iconst 2, []), (.iadd, []), (.invokevirtual 710, [1, 17, 79, 2, 1, 0, 1]), (.bipush 45, []), (.if_icmp .ne 8, [1]), (.iconst 1, []), (.istore 4, []), (.iconst 1, []), (.istore_n 3, []), (.nop, [1])]),
  (false, [(.iconst 0, []), (.istore 5, []), (.iconst 1, []), (.istore 6, []), (.nop, [2])]),
  (true, [(.iload 6, []), (.ifCond .eq 84, [6]), (.aload_n 0, []), (.getfield 677, [17, 99, 0]), (.iconst (-1), []), (.if_icmp .ne 76, [6]), (.iload_n 3, []), (.iload_n 2, []), (.if_icmp .ge 71, [6]), (.aload_n 0, []), (.iload_n 1, []), (.iconst 2, []), (.iadd, []), (.iload_n 3, []), (.iadd, []), (.invokevirtual 710, [1, 17, 79, 2, 1, 0, 1]), (.istore 7, []), (.aload_n 0, []), (.getfield 677, [17, 99, 0]), (.iconst (-1), []), (.if_icmp .ne 21, [3]), (.iload 7, []), (.bipush 48, []), (.if_icmp .lt 14, [3]), (.iload 7, []), (.bipush 57, []), (.if_icmp .gt 7, [3]), (.iconst 1, []), (.goto 4, [4])]),
  (false, [(.iconst 0, []), (.nop, [4])]),
  (true, [(.istore 6, []), (.iload 6, []), (.ifCond .eq 19, [5]), (.bipush 10, []), (.iload 5, []), (.imul, []), (.iload 7, []), (.iadd, []), (.bipush 48, []), (.isub, []), (.invokestatic 683, [0, 17, 76, 1, 1, 0, 1]), (.istore 5, []), (.nop, [5])]),
  (false, [(.iload_n 3, []), (.iconst 1, []), (.iadd, []), (.istore_n 3, []), (.goto (-83), [2])]),
  (false, [(.iload 4, []), (.ifCond .eq 9, [7]), (.iload 5, []), (.ineg, []), (.goto 5, [8])]),
  (false, [(.iload 5, []), (.nop, [8])]),
  (false, [(.ireturn, [])])]
/-- TowerComputerModel.digit(II)I -/
def m_17_92 : List am_B := [
  (false, [(.bipush 48, []), (.iload_n 0, []), (.iload_n 1, []), (.idiv, []), (.bipush 10, []), (.irem, []), (.iadd, []), (.ireturn, [])])]
/-- TowerComputerModel.firstPower(I)I -/
def m_17_93 : List am_B := [
  (false, [(.iconst 1, []), (.istore_n 1, []), (.nop, [1])]),
  (true, [(.iload_n 0, []), (.iload_n 1, []), (.idiv, []), (.bipush 10, []), (.if_icmp .lt 11, [2]), (.iload_n 1, []), (.bipush 10, []), (.imul, []), (.istore_n 1, []), (.goto (-13), [1])]),
  (false, [(.iload_n 1, []), (.ireturn, [])])]
/-- TowerComputerModel.setInt(II)V -/
def m_17_94 : List am_B := [
  (false, [(.aload_n 0, []), (.iload_n 1, []), (.iconst 1, []), (.iadd, []), (.iconst 0, []), (.invokevirtual 707, [1, 17, 80, 3, 0, 0, 1]), (.iload_n 2, []), (.ifCond .ge 8, [1]), (.iload_n 2, []), (.ineg, []), (.goto 4, [2])]),
  (false, [(.iload_n 2, []), (.nop, [2])]),
  (true, [(.istore_n 3, []), (.iload_n 2, []), (.ifCond .ge 18, [3]), (.aload_n 0, []), (.getfield 677, [17, 99, 0]), (.iconst (-1), []), (.if_icmp .ne 10, [3]), (.aload_n 0, []), (.iload_n 1, []), (.bipush 45, []), (.invokevirtual 713, [1, 17, 89, 3, 0, 0, 1]), (.nop, [3])]),
  (false, [(.iload_n 3, []), (.invokestatic 716, [0, 17, 93, 1, 1, 0, 1]), (.istore 4, []), (.nop, [4])]),
  (true, [(.iload 4, []), (.ifCond .le 32, [5]), (.aload_n 0, []), (.getfield 677, [17, 99, 0]), (.iconst (-1), []), (.if_icmp .ne 24, [5]), (.aload_n 0, []), (.iload_n 1, []), (.iload_n 3, []), (.iload 4, []), (.invokestatic 719, [0, 17, 92, 2, 1, 0, 1]), (.invokevirtual 713, [1, 17, 89, 3, 0, 0, 1]), (.iload 4, []), (.bipush 10, []), (.idiv, []), (.istore 4, []), (.goto (-31), [4])]),
  (false, [(.return_, [])])]
/-- TowerComputerModel.printString(I)V -/
def m_17_95 : List am_B := [
  (false, [(.aload_n 0, []), (.iload_n 1, []), (.iconst 1, []), (.iadd, []), (.invokevirtual 710, [1, 17, 79, 2, 1, 0, 1]), (.istore_n 2, []), (.iconst 0, []), (.istore_n 3, []), (.nop, [1])]),
  (true, [(.iload_n 3, []), (.iload_n 2, []), (.if_icmp .ge 27, [2]), (.aload_n 0, []), (.getfield 677, [17, 99, 0]), (.iconst (-1), []), (.if_icmp .ne 19, [2]), (.aload_n 0, []), (.aload_n 0, []), (.iload_n 1, []), (.iload_n 3, []), (.invokevirtual 722, [1, 17, 90, 3, 1, 0, 1]), (.invokevirtual 725, [1, 17, 87, 2, 0, 0, 1]), (.iinc 3 1, []), (.goto (-26), [1])]),
  (false, [(.return_, [])])]
/-- TowerComputerModel.printInt(I)V -/
def m_17_96 : List am_B := [
  (false, [(.iload_n 1, []), (.ifCond .ge 8, [1]), (.iload_n 1, []), (.ineg, []), (.goto 4, [2])]),
  (false, [(.iload_n 1, []), (.nop, [2])]),
  (true, [(.istore_n 2, []), (.iload_n 1, []), (.ifCond .ge 9, [3]), (.aload_n 0, []), (.bipush 45, []), (.invokevirtual 725, [1, 17, 87, 2, 0, 0, 1]), (.nop, [3])]),
  (false, [(.iload_n 2, []), (.invokestatic 716, [0, 17, 93, 1, 1, 0, 1]), (.istore_n 3, []), (.nop, [4])]),
  (true, [(.iload_n 3, []), (.ifCond .le 20, [5]), (.aload_n 0, []), (.iload_n 2, []), (.iload_n 3, []), (.invokestatic 719, [0, 17, 92, 2, 1, 0, 1]), (.invokevirtual 725, [1, 17, 87, 2, 0, 0, 1]), (.iload_n 3, []), (.bipush 10, []), (.idiv, []), (.istore_n 3, []), (.goto (-18), [4])]),
  (false, [(.return_, [])])]
/-- TowerComputerModel.readLine(I)I -/
def m_17_97 : List am_B := [
  (false, [(.aload_n 0, []), (.iload_n 1, []), (.invokevirtual 728, [1, 17, 95, 2, 0, 0, 1]), (.aload_n 0, []), (.getfield 677, [17, 99, 0]), (.iconst (-1), []), (.if_icmp .ne 12, [1]), (.aload_n 0, []), (.bipush 80, []), (.invokevirtual 731, [1, 17, 88, 2, 1, 0, 1]), (.goto 4, [2])]),
  (false, [(.iconst 0, []), (.nop, [2])]),
  (false, [(.istore_n 2, []), (.iconst 1, []), (.istore_n 3, []), (.nop, [3])]),
  (true, [(.iload_n 3, []), (.ifCond .eq 65, [6]), (.aload_n 0, []), (.getfield 677, [17, 99, 0]), (.iconst (-1), []), (.if_icmp .ne 57, [6]), (.aload_n 0, []), (.getfield 734, [17, 103, 0]), (.aload_n 0, []), (.getfield 737, [17, 102, 0]), (.if_icmp .ge 46, [6]), (.aload_n 0, []), (.getfield 207, [17, 101, 1]), (.aload_n 0, []), (.getfield 734, [17, 103, 0]), (.iaload, []), (.istore 4, []), (.aload_n 0, []), (.aload_n 0, []), (.getfield 734, [17, 103, 0]), (.iconst 1, []), (.iadd, []), (.putfield 734, [17, 103, 0]), (.iload 4, []), (.bipush 10, []), (.if_icmp .ne 8, [4]), (.iconst 0, []), (.istore_n 3, []), (.goto 10, [5])]),
  (false, [(.aload_n 0, []), (.iload_n 2, []), (.iload 4, []), (.invokevirtual 713, [1, 17, 89, 3, 0, 0, 1]), (.nop, [5])]),
  (false, [(.goto (-63), [3])]),
  (false, [(.iload_n 2, []), (.ireturn, [])])]
/-- TowerComputerModel.isPoint(II)Z -/
def m_17_98 : List am_B := [
  (false, [(.iload_n 0, []), (.ifCond .lt 23, [1]), (.iload_n 0, []), (.bipush 64, []), (.if_icmp .ge 17, [1]), (.iload_n 1, []), (.ifCond .lt 13, [1]), (.iload_n 1, []), (.bipush 32, []), (.if_icmp .ge 7, [1]), (.iconst 1, []), (.goto 4, [2])]),
  (false, [(.iconst 0, []), (.nop, [2])]),
  (false, [(.ireturn, [1])])]
/-- TowerComputerModel.point(II)V -/
def m_17_99 : List am_B := [
  (false, [(.sipush 16384, []), (.iconst 4, []), (.iload_n 2, []), (.imul, []), (.iadd, []), (.iload_n 1, []), (.bipush 16, []), (.idiv, []), (.iadd, []), (.istore_n 3, []), (.iconst 1, []), (.iload_n 1, []), (.bipush 16, []), (.irem, []), (.ishl, []), (.istore 4, []), (.aload_n 0, []), (.getfield 174, [17, 80, 1]), (.iload_n 3, []), (.aload_n 0, []), (.getfield 740, [17, 108, 3]), (.ifCond .eq 15, [1]), (.aload_n 0, []), (.getfield 174, [17, 80, 1]), (.iload_n 3, []), (.iaload, []), (.iload 4, []), (.ior, []), (.goto 14, [2])]),
  (false, [(.aload_n 0, []), (.getfield 174, [17, 80, 1]), (.iload_n 3, []), (.iaload, []), (.iload 4, []), (.iconst (-1), []), (.ixor, []), (.iand, []), (.nop, [2])]),
  (false, [(.invokestatic 683, [0, 17, 76, 1, 1, 0, 1]), (.iastore, []), (.return_, [])])]
/-- TowerComputerModel.line(IIII)V -/
def m_17_100 : List am_B := [
  (false, [(.iload_n 1, []), (.iload_n 2, []), (.invokestatic 743, [0, 17, 98, 2, 1, 0, 1]), (.ifCond .eq 12, [1]), (.iload_n 3, []), (.iload 4, []), (.invokestatic 743, [0, 17, 98, 2, 1, 0, 1]), (.ifCond .ne 10, [2]), (.nop, [1])]),
  (false, [(.aload_n 0, []), (.bipush 8, []), (.invokevirtual 689, [1, 17, 77, 2, 0, 0, 1]), (.return_, [])]),
  (false, [(.iload_n 3, []), (.iload_n 1, []), (.if_icmp .ge 9, [3]), (.iload_n 1, []), (.iload_n 3, []), (.isub, []), (.goto 6, [4])]),
  (false, [(.iload_n 3, []), (.iload_n 1, []), (.isub, []), (.nop, [4])]),
  (false, [(.istore 5, []), (.iload 4, []), (.iload_n 2, []), (.if_icmp .ge 10, [5]), (.iload_n 2, []), (.iload 4, []), (.isub, []), (.goto 7, [6])]),
  (false, [(.iload 4, []), (.iload_n 2, []), (.isub, []), (.nop, [6])]),
  (true, [(.istore 6, []), (.iconst 0, []), (.istore 7, []), (.iconst 0, []), (.istore 8, []), (.iload 6, []), (.ifCond .ne 7, [7]), (.iconst (-1), []), (.goto 4, [8])]),
  (false, [(.iconst 0, []), (.nop, [8])]),
  (false, [(.istore 9, []), (.nop, [9])]),
  (true, [(.iload 7, []), (.iload 5, []), (.if_icmp .gt 84, [15]), (.iload 8, []), (.iload 6, []), (.if_icmp .gt 77, [15]), (.aload_n 0, []), (.iload_n 3, []), (.iload_n 1, []), (.if_icmp .ge 10, [10]), (.iload_n 1, []), (.iload 7, []), (.isub, []), (.goto 7, [11])]),
  (false, [(.iload_n 1, []), (.iload 7, []), (.iadd, []), (.nop, [11])]),
  (false, [(.iload 4, []), (.iload_n 2, []), (.if_icmp .ge 10, [12]), (.iload_n 2, []), (.iload 8, []), (.isub, []), (.goto 7, [13])]),
  (false, [(.iload_n 2, []), (.iload 8, []), (.iadd, []), (.nop, [13])]),
  (true, [(.invokevirtual 746, [1, 17, 99, 3, 0, 0, 1]), (.iload 9, []), (.ifCond .ge 19, [14]), (.iload 7, []), (.iconst 1, []), (.iadd, []), (.istore 7, []), (.iload 9, []), (.iload 6, []), (.iadd, []), (.istore 9, []), (.goto (-69), [9])]),
  (false, [(.iload 8, []), (.iconst 1, []), (.iadd, []), (.istore 8, []), (.iload 9, []), (.iload 5, []), (.isub, []), (.istore 9, []), (.goto (-85), [9])]),
  (false, [(.return_, [])])]
/-- TowerComputerModel.rectangle(IIII)V -/
def m_17_101 : List am_B := [
  (false, [(.iload_n 1, []), (.iload_n 3, []), (.if_icmp .gt 26, [1]), (.iload_n 2, []), (.iload 4, []), (.if_icmp .gt 20, [1]), (.iload_n 1, []), (.iload_n 2, []), (.invokestatic 743, [0, 17, 98, 2, 1, 0, 1]), (.ifCond .eq 12, [1]), (.iload_n 3, []), (.iload 4, []), (.invokestatic 743, [0, 17, 98, 2, 1, 0, 1]), (.ifCond .ne 10, [2]), (.nop, [1])]),
  (false, [(.aload_n 0, []), (.bipush 9, []), (.invokevirtual 689, [1, 17, 77, 2, 0, 0, 1]), (.return_, [])]),
  (false, [(.iload_n 2, []), (.istore 5, []), (.nop, [3])]),
  (true, [(.iload 5, []), (.iload 4, []), (.if_icmp .gt 32, [6]), (.iload_n 1, []), (.istore 6, []), (.nop, [4])]),
  (true, [(.iload 6, []), (.iload_n 3, []), (.if_icmp .gt 17, [5]), (.aload_n 0, []), (.iload 6, []), (.iload 5, []), (.invokevirtual 746, [1, 17, 99, 3, 0, 0, 1]), (.iinc 6 1, []), (.goto (-17), [4])]),
  (false, [(.iinc 5 1, []), (.goto (-33), [3])]),
  (false, [(.return_, [])])]
/-- TowerComputerModel.circle(III)V -/
def m_17_102 : List am_B := [
  (false, [(.iload_n 3, []), (.ifCond .lt 33, [1]), (.iload_n 3, []), (.bipush 31, []), (.if_icmp .gt 27, [1]), (.iload_n 1, []), (.iload_n 3, []), (.isub, []), (.iload_n 2, []), (.iload_n 3, []), (.isub, []), (.invokestatic 743, [0, 17, 98, 2, 1, 0, 1]), (.ifCond .eq 15, [1]), (.iload_n 1, []), (.iload_n 3, []), (.iadd, []), (.iload_n 2, []), (.iload_n 3, []), (.iadd, []), (.invokestatic 743, [0, 17, 98, 2, 1, 0, 1]), (.ifCond .ne 10, [2]), (.nop, [1])]),
  (false, [(.aload_n 0, []), (.bipush 13, []), (.invokevirtual 689, [1, 17, 77, 2, 0, 0, 1]), (.return_, [])]),
  (false, [(.iload_n 3, []), (.ineg, []), (.istore 4, []), (.nop, [3])]),
  (true, [(.iload 4, []), (.iload_n 3, []), (.if_icmp .gt 54, [6]), (.iload_n 3, []), (.iload_n 3, []), (.imul, []), (.iload 4, []), (.iload 4, []), (.imul, []), (.isub, []), (.invokestatic 749, [0, 17, 86, 1, 1, 0, 1]), (.istore 5, []), (.iload_n 1, []), (.iload 5, []), (.isub, []), (.istore 6, []), (.nop, [4])]),
  (true, [(.iload 6, []), (.iload_n 1, []), (.iload 5, []), (.iadd, []), (.if_icmp .gt 19, [5]), (.aload_n 0, []), (.iload 6, []), (.iload_n 2, []), (.iload 4, []), (.iadd, []), (.invokevirtual 746, [1, 17, 99, 3, 0, 0, 1]), (.iinc 6 1, []), (.goto (-22), [4])]),
  (false, [(.iinc 4 1, []), (.goto (-54), [3])]),
  (false, [(.return_, [])])]
/-- TowerComputerModel.math(I)I -/
def m_17_103 : List am_B := [
  (false, [(.aload_n 0, []), (.getfield 213, [17, 109, 1]), (.iconst 0, []), (.iaload, []), (.istore_n 2, []), (.aload_n 0, []), (.getfield 213, [17, 109, 1]), (.iconst 1, []), (.iaload, []), (.istore_n 3, []), (.iload_n 1, []), (.tableswitch 91 0 4 #[33, 44, 55, 66, 70], [15, 1, 4, 7, 10, 11])]),
  (false, [(.iload_n 2, []), (.ifCond .ge 8, [2]), (.iload_n 2, []), (.ineg, []), (.goto 4, [3])]),
  (false, [(.iload_n 2, []), (.nop, [3])]),
  (false, [(.ireturn, [])]),
  (false, [(.iload_n 2, []), (.iload_n 3, []), (.if_icmp .ge 7, [5]), (.iload_n 2, []), (.goto 4, [6])]),
  (false, [(.iload_n 3, []), (.nop, [6])]),
  (false, [(.ireturn, [])]),
  (false, [(.iload_n 2, []), (.iload_n 3, []), (.if_icmp .le 7, [8]), (.iload_n 2, []), (.goto 4, [9])]),
  (false, [(.iload_n 3, []), (.nop, [9])]),
  (false, [(.ireturn, [])]),
  (false, [(.iload_n 2, []), (.iload_n 3, []), (.imul, []), (.ireturn, [])]),
  (false, [(.iload_n 3, []), (.ifCond .ne 8, [12]), (.aload_n 0, []), (.iconst 3, []), (.invokevirtual 689, [1, 17, 77, 2, 0, 0, 1]), (.nop, [12])]),
  (false, [(.iload_n 3, []), (.ifCond .ne 7, [13]), (.iconst 0, []), (.goto 6, [14])]),
  (false, [(.iload_n 2, []), (.iload_n 3, []), (.idiv, []), (.nop, [14])]),
  (false, [(.ireturn, [])]),
  (false, [(.iload_n 2, []), (.ifCond .ge 8, [16]), (.aload_n 0, []), (.iconst 4, []), (.invokevirtual 689, [1, 17, 77, 2, 0, 0, 1]), (.nop, [16])]),
  (false, [(.iload_n 2, []), (.ifCond .ge 7, [17]), (.iconst 0, []), (.goto 7, [18])]),
  (false, [(.iload_n 2, []), (.invokestatic 749, [0, 17, 86, 1, 1, 0, 1]), (.nop, [18])]),
  (false, [(.ireturn, [])])]
/-- TowerComputerModel.memories(I)I -/
def m_17_104 : List am_B := [
  (false, [(.iload_n 1, []), (.tableswitch 67 0 2 #[27, 38, 56], [4, 1, 2, 3])]),
  (false, [(.aload_n 0, []), (.aload_n 0, []), (.getfield 213, [17, 109, 1]), (.iconst 0, []), (.iaload, []), (.invokevirtual 710, [1, 17, 79, 2, 1, 0, 1]), (.ireturn, [])]),
  (false, [(.aload_n 0, []), (.aload_n 0, []), (.getfield 213, [17, 109, 1]), (.iconst 0, []), (.iaload, []), (.aload_n 0, []), (.getfield 213, [17, 109, 1]), (.iconst 1, []), (.iaload, []), (.invokevirtual 707, [1, 17, 80, 3, 0, 0, 1]), (.iconst 0, []), (.ireturn, [])]),
  (false, [(.aload_n 0, []), (.aload_n 0, []), (.getfield 213, [17, 109, 1]), (.iconst 0, []), (.iaload, []), (.invokevirtual 704, [1, 17, 84, 2, 1, 0, 1]), (.ireturn, [])]),
  (false, [(.aload_n 0, []), (.aload_n 0, []), (.getfield 213, [17, 109, 1]), (.iconst 0, []), (.iaload, []), (.invokevirtual 752, [1, 17, 85, 2, 0, 0, 1]), (.iconst 0, []), (.ireturn, [])])]
/-- TowerComputerModel.strings(I)I -/
def m_17_105 : List am_B := [
  (false, [(.aload_n 0, []), (.getfield 213, [17, 109, 1]), (.iconst 0, []), (.iaload, []), (.istore_n 2, []), (.iload_n 1, []), (.tableswitch 231 0 8 #[52, 58, 66, 78, 153, 166, 205, 211, 224], [15, 1, 2, 3, 4, 8, 9, 12, 13, 14])]),
  (false, [(.aload_n 0, []), (.iload_n 2, []), (.invokevirtual 731, [1, 17, 88, 2, 1, 0, 1]), (.ireturn, [])]),
  (false, [(.aload_n 0, []), (.iload_n 2, []), (.iconst 1, []), (.iadd, []), (.invokevirtual 710, [1, 17, 79, 2, 1, 0, 1]), (.ireturn, [])]),
  (false, [(.aload_n 0, []), (.iload_n 2, []), (.aload_n 0, []), (.getfield 213, [17, 109, 1]), (.iconst 1, []), (.iaload, []), (.invokevirtual 722, [1, 17, 90, 3, 1, 0, 1]), (.ireturn, [])]),
  (false, [(.aload_n 0, []), (.getfield 213, [17, 109, 1]), (.iconst 1, []), (.iaload, []), (.ifCond .ge 9, [5]), (.aload_n 0, []), (.bipush 16, []), (.invokevirtual 689, [1, 17, 77, 2, 0, 0, 1]), (.nop, [5])]),
  (true, [(.aload_n 0, []), (.getfield 677, [17, 99, 0]), (.iconst (-1), []), (.if_icmp .ne 25, [6]), (.aload_n 0, []), (.getfield 213, [17, 109, 1]), (.iconst 1, []), (.iaload, []), (.aload_n 0, []), (.iload_n 2, []), (.iconst 1, []), (.iadd, []), (.invokevirtual 710, [1, 17, 79, 2, 1, 0, 1]), (.if_icmp .lt 9, [6]), (.aload_n 0, []), (.bipush 16, []), (.invokevirtual 689, [1, 17, 77, 2, 0, 0, 1]), (.nop, [6])]),
  (true, [(.aload_n 0, []), (.getfield 677, [17, 99, 0]), (.iconst (-1), []), (.if_icmp .ne 23, [7]), (.aload_n 0, []), (.iload_n 2, []), (.iconst 2, []), (.iadd, []), (.aload_n 0, []), (.getfield 213, [17, 109, 1]), (.iconst 1, []), (.iaload, []), (.iadd, []), (.aload_n 0, []), (.getfield 213, [17, 109, 1]), (.iconst 2, []), (.iaload, []), (.invokevirtual 707, [1, 17, 80, 3, 0, 0, 1]), (.nop, [7])]),
  (false, [(.iconst 0, []), (.ireturn, [])]),
  (false, [(.aload_n 0, []), (.iload_n 2, []), (.aload_n 0, []), (.getfield 213, [17, 109, 1]), (.iconst 1, []), (.iaload, []), (.invokevirtual 713, [1, 17, 89, 3, 0, 0, 1]), (.iload_n 2, []), (.ireturn, [])]),
  (false, [(.aload_n 0, []), (.iload_n 2, []), (.iconst 1, []), (.iadd, []), (.invokevirtual 710, [1, 17, 79, 2, 1, 0, 1]), (.istore_n 3, []), (.iload_n 3, []), (.iconst 1, []), (.if_icmp .ge 9, [10]), (.aload_n 0, []), (.bipush 18, []), (.invokevirtual 689, [1, 17, 77, 2, 0, 0, 1]), (.nop, [10])]),
  (true, [(.aload_n 0, []), (.getfield 677, [17, 99, 0]), (.iconst (-1), []), (.if_icmp .ne 13, [11]), (.aload_n 0, []), (.iload_n 2, []), (.iconst 1, []), (.iadd, []), (.iload_n 3, []), (.iconst 1, []), (.isub, []), (.invokevirtual 707, [1, 17, 80, 3, 0, 0, 1]), (.nop, [11])]),
  (false, [(.iconst 0, []), (.ireturn, [])]),
  (false, [(.aload_n 0, []), (.iload_n 2, []), (.invokevirtual 755, [1, 17, 91, 2, 1, 0, 1]), (.ireturn, [])]),
  (false, [(.aload_n 0, []), (.iload_n 2, []), (.aload_n 0, []), (.getfield 213, [17, 109, 1]), (.iconst 1, []), (.iaload, []), (.invokevirtual 758, [1, 17, 94, 3, 0, 0, 1]), (.iconst 0, []), (.ireturn, [])]),
  (false, [(.aload_n 0, []), (.iload_n 2, []), (.invokevirtual 752, [1, 17, 85, 2, 0, 0, 1]), (.iconst 0, []), (.ireturn, [])]),
  (false, [(.iload_n 1, []), (.bipush 9, []), (.if_icmp .ne 8, [16]), (.bipush 10, []), (.goto 16, [18])]),
  (false, [(.iload_n 1, []), (.bipush 10, []), (.if_icmp .ne 8, [17]), (.bipush 34, []), (.goto 5, [18])]),
  (false, [(.bipush 8, []), (.nop, [18])]),
  (false, [(.ireturn, [])])]
/-- TowerComputerModel.outputs(I)V -/
def m_17_106 : List am_B := [
  (false, [(.iload_n 1, []), (.ifCond .ne 13, [1]), (.aload_n 0, []), (.aload_n 0, []), (.getfield 213, [17, 109, 1]), (.iconst 0, []), (.iaload, []), (.invokevirtual 725, [1, 17, 87, 2, 0, 0, 1]), (.nop, [1])]),
  (false, [(.iload_n 1, []), (.iconst 1, []), (.if_icmp .ne 13, [2]), (.aload_n 0, []), (.aload_n 0, []), (.getfield 213, [17, 109, 1]), (.iconst 0, []), (.iaload, []), (.invokevirtual 728, [1, 17, 95, 2, 0, 0, 1]), (.nop, [2])]),
  (true, [(.iload_n 1, []), (.iconst 2, []), (.if_icmp .ne 13, [3]), (.aload_n 0, []), (.aload_n 0, []), (.getfield 213, [17, 109, 1]), (.iconst 0, []), (.iaload, []), (.invokevirtual 761, [1, 17, 96, 2, 0, 0, 1]), (.nop, [3])]),
  (false, [(.iload_n 1, []), (.iconst 3, []), (.if_icmp .ne 9, [4]), (.aload_n 0, []), (.bipush 10, []), (.invokevirtual 725, [1, 17, 87, 2, 0, 0, 1]), (.nop, [4])]),
  (false, [(.return_, [])])]
/-- TowerComputerModel.keyboard(I)I -/
def m_17_107 : List am_B := [
  (false, [(.iload_n 1, []), (.iconst 2, []), (.if_icmp .ne 14, [1]), (.aload_n 0, []), (.aload_n 0, []), (.getfield 213, [17, 109, 1]), (.iconst 0, []), (.iaload, []), (.invokevirtual 764, [1, 17, 97, 2, 1, 0, 1]), (.ireturn, [])]),
  (false, [(.aload_n 0, []), (.getfield 734, [17, 103, 0]), (.aload_n 0, []), (.getfield 737, [17, 102, 0]), (.if_icmp .ge 15, [2]), (.aload_n 0, []), (.getfield 207, [17, 101, 1]), (.aload_n 0, []), (.getfield 734, [17, 103, 0]), (.iaload, []), (.goto 4, [3])]),
  (false, [(.iconst 0, []), (.nop, [3])]),
  (true, [(.istore_n 2, []), (.iload_n 1, []), (.iconst 1, []), (.if_icmp .ne 24, [4]), (.aload_n 0, []), (.getfield 734, [17, 103, 0]), (.aload_n 0, []), (.getfield 737, [17, 102, 0]), (.if_icmp .ge 13, [4]), (.aload_n 0, []), (.aload_n 0, []), (.getfield 734, [17, 103, 0]), (.iconst 1, []), (.iadd, []), (.putfield 734, [17, 103, 0]), (.nop, [4])]),
  (false, [(.iload_n 2, []), (.ireturn, [])])]
/-- TowerComputerModel.screen(I)V -/
def m_17_108 : List am_B := [
  (false, [(.iload_n 1, []), (.tableswitch 181 0 4 #[35, 60, 79, 123, 152], [12, 1, 4, 7, 10, 11])]),
  (false, [(.sipush 16384, []), (.istore_n 2, []), (.nop, [2])]),
  (true, [(.iload_n 2, []), (.sipush 16512, []), (.if_icmp .ge 16, [3]), (.aload_n 0, []), (.getfield 174, [17, 80, 1]), (.iload_n 2, []), (.iconst 0, []), (.iastore, []), (.iinc 2 1, []), (.goto (-17), [2])]),
  (false, [(.return_, [])]),
  (false, [(.aload_n 0, []), (.aload_n 0, []), (.getfield 213, [17, 109, 1]), (.iconst 0, []), (.iaload, []), (.ifCond .eq 7, [5]), (.iconst 1, []), (.goto 4, [6])]),
  (false, [(.iconst 0, []), (.nop, [6])]),
  (false, [(.putfield 740, [17, 108, 3]), (.return_, [])]),
  (false, [(.aload_n 0, []), (.getfield 213, [17, 109, 1]), (.iconst 0, []), (.iaload, []), (.aload_n 0, []), (.getfield 213, [17, 109, 1]), (.iconst 1, []), (.iaload, []), (.invokestatic 743, [0, 17, 98, 2, 1, 0, 1]), (.ifCond .eq 22, [8]), (.aload_n 0, []), (.aload_n 0, []), (.getfield 213, [17, 109, 1]), (.iconst 0, []), (.iaload, []), (.aload_n 0, []), (.getfield 213, [17, 109, 1]), (.iconst 1, []), (.iaload, []), (.invokevirtual 746, [1, 17, 99, 3, 0, 0, 1]), (.goto 9, [9])]),
  (false, [(.aload_n 0, []), (.bipush 7, []), (.invokevirtual 689, [1, 17, 77, 2, 0, 0, 1]), (.nop, [9])]),
  (false, [(.return_, [])]),
  (false, [(.aload_n 0, []), (.aload_n 0, []), (.getfield 213, [17, 109, 1]), (.iconst 0, []), (.iaload, []), (.aload_n 0, []), (.getfield 213, [17, 109, 1]), (.iconst 1, []), (.iaload, []), (.aload_n 0, []), (.getfield 213, [17, 109, 1]), (.iconst 2, []), (.iaload, []), (.aload_n 0, []), (.getfield 213, [17, 109, 1]), (.iconst 3, []), (.iaload, []), (.invokevirtual 767, [1, 17, 100, 5, 0, 0, 1]), (.return_, [])]),
  (false, [(.aload_n 0, []), (.aload_n 0, []), (.getfield 213, [17, 109, 1]), (.iconst 0, []), (.iaload, []), (.aload_n 0, []), (.getfield 213, [17, 109, 1]), (.iconst 1, []), (.iaload, []), (.aload_n 0, []), (.getfield 213, [17, 109, 1]), (.iconst 2, []), (.iaload, []), (.aload_n 0, []), (.getfield 213, [17, 109, 1]), (.iconst 3, []), (.iaload, []), (.invokevirtual 770, [1, 17, 101, 5, 0, 0, 1]), (.return_, [])]),
  (false, [(.aload_n 0, []), (.aload_n 0, []), (.getfield 213, [17, 109, 1]), (.iconst 0, []), (.iaload, []), (.aload_n 0, []), (.getfield 213, [17, 109, 1]), (.iconst 1, []), (.iaload, []), (.aload_n 0, []), (.getfield 213, [17, 109, 1]), (.iconst 2, []), (.iaload, []), (.invokevirtual 773, [1, 17, 102, 4, 0, 0, 1]), (.return_, [])])]
/-- TowerComputerModel.systemCall(II)I -/
def m_17_109 : List am_B := [
  (false, [(.iload_n 1, []), (.tableswitch 141 0 6 #[43, 49, 55, 115, 121, 128, 134], [12, 1, 2, 3, 8, 9, 10, 11])]),
  (false, [(.aload_n 0, []), (.iload_n 2, []), (.invokevirtual 776, [1, 17, 103, 2, 1, 0, 1]), (.ireturn, [])]),
  (false, [(.aload_n 0, []), (.iload_n 2, []), (.invokevirtual 779, [1, 17, 104, 2, 1, 0, 1]), (.ireturn, [])]),
  (false, [(.iload_n 2, []), (.iconst 1, []), (.if_icmp .ne 16, [4]), (.aload_n 0, []), (.aload_n 0, []), (.getfield 213, [17, 109, 1]), (.iconst 0, []), (.iaload, []), (.invokevirtual 752, [1, 17, 85, 2, 0, 0, 1]), (.goto 18, [5])]),
  (false, [(.aload_n 0, []), (.getfield 213, [17, 109, 1]), (.iconst 0, []), (.iaload, []), (.iconst 1, []), (.if_icmp .ge 8, [5]), (.aload_n 0, []), (.iconst 2, []), (.invokevirtual 689, [1, 17, 77, 2, 0, 0, 1]), (.nop, [5])]),
  (true, [(.iload_n 2, []), (.ifCond .ne 24, [6]), (.aload_n 0, []), (.getfield 677, [17, 99, 0]), (.iconst (-1), []), (.if_icmp .ne 16, [6]), (.aload_n 0, []), (.aload_n 0, []), (.getfield 213, [17, 109, 1]), (.iconst 0, []), (.iaload, []), (.invokevirtual 704, [1, 17, 84, 2, 1, 0, 1]), (.goto 4, [7])]),
  (false, [(.iconst 0, []), (.nop, [7])]),
  (false, [(.ireturn, [])]),
  (false, [(.aload_n 0, []), (.iload_n 2, []), (.invokevirtual 782, [1, 17, 105, 2, 1, 0, 1]), (.ireturn, [])]),
  (false, [(.aload_n 0, []), (.iload_n 2, []), (.invokevirtual 785, [1, 17, 106, 2, 0, 0, 1]), (.iconst 0, []), (.ireturn, [])]),
  (false, [(.aload_n 0, []), (.iload_n 2, []), (.invokevirtual 788, [1, 17, 107, 2, 1, 0, 1]), (.ireturn, [])]),
  (false, [(.aload_n 0, []), (.iload_n 2, []), (.invokevirtual 791, [1, 17, 108, 2, 0, 0, 1]), (.iconst 0, []), (.ireturn, [])]),
  (false, [(.iload_n 2, []), (.ifCond .ne 16, [13]), (.aload_n 0, []), (.getfield 677, [17, 99, 0]), (.iconst (-1), []), (.if_icmp .ne 8, [13]), (.aload_n 0, []), (.iconst 0, []), (.putfield 677, [17, 99, 0]), (.nop, [13])]),
  (false, [(.iload_n 2, []), (.iconst 1, []), (.if_icmp .ne 13, [14]), (.aload_n 0, []), (.aload_n 0, []), (.getfield 213, [17, 109, 1]), (.iconst 0, []), (.iaload, []), (.invokevirtual 689, [1, 17, 77, 2, 0, 0, 1]), (.nop, [14])]),
  (true, [(.iload_n 2, []), (.iconst 2, []), (.if_icmp .ne 18, [15]), (.aload_n 0, []), (.getfield 213, [17, 109, 1]), (.iconst 0, []), (.iaload, []), (.iconst 1, []), (.if_icmp .ge 8, [15]), (.aload_n 0, []), (.iconst 1, []), (.invokevirtual 689, [1, 17, 77, 2, 0, 0, 1]), (.nop, [15])]),
  (false, [(.iconst 0, []), (.ireturn, [])])]
/-- TowerComputerModel.step()Z -/
def m_17_110 : List am_B := [
  (false, [(.aload_n 0, []), (.getfield 794, [17, 96, 0]), (.aload_n 0, []), (.getfield 797, [17, 97, 0]), (.if_icmp .ne 10, [1]), (.aload_n 0, []), (.iconst 1, []), (.putfield 677, [17, 99, 0]), (.iconst 0, []), (.ireturn, [1])]),
  (false, [(.aload_n 0, []), (.aload_n 0, []), (.getfield 794, [17, 96, 0]), (.iconst 1, []), (.iadd, []), (.putfield 794, [17, 96, 0]), (.iconst 1, []), (.ireturn, [1])])]
/-- TowerComputerModel.enter(I)V -/
def m_17_111 : List am_B := [
  (false, [(.aload_n 0, []), (.invokevirtual 800, [1, 17, 110, 1, 1, 0, 1]), (.ifCond .ne 4, [1]), (.return_, [])]),
  (false, [(.aload_n 0, []), (.getfield 803, [17, 88, 0]), (.bipush 40, []), (.if_icmp .ne 9, [2]), (.aload_n 0, []), (.iconst 2, []), (.putfield 677, [17, 99, 0]), (.return_, [])]),
  (false, [(.aload_n 0, []), (.getfield 50, [17, 22, 1]), (.iload_n 1, []), (.iaload, []), (.istore_n 2, []), (.aload_n 0, []), (.getfield 803, [17, 88, 0]), (.istore_n 3, []), (.iconst 0, []), (.istore 4, []), (.nop, [3])]),
  (true, [(.iload 4, []), (.bipush 24, []), (.if_icmp .ge 22, [4]), (.aload_n 0, []), (.getfield 186, [17, 85, 1]), (.bipush 24, []), (.iload_n 3, []), (.imul, []), (.iload 4, []), (.iadd, []), (.iconst 0, []), (.iastore, []), (.iinc 4 1, []), (.goto (-23), [3])]),
  (false, [(.iload_n 2, []), (.iconst 1, []), (.isub, []), (.istore 4, []), (.nop, [5])]),
  (true, [(.iload 4, []), (.ifCond .lt 25, [6]), (.aload_n 0, []), (.getfield 186, [17, 85, 1]), (.bipush 24, []), (.iload_n 3, []), (.imul, []), (.iload 4, []), (.iadd, []), (.aload_n 0, []), (.invokevirtual 806, [1, 17, 82, 1, 1, 0, 1]), (.iastore, []), (.iinc 4 (-1), []), (.goto (-24), [5])]),
  (false, [(.aload_n 0, []), (.getfield 198, [17, 92, 1]), (.iload_n 3, []), (.aload_n 0, []), (.getfield 41, [17, 19, 1]), (.iload_n 1, []), (.iaload, []), (.iconst 3, []), (.if_icmp .ne 10, [7]), (.aload_n 0, []), (.invokevirtual 806, [1, 17, 82, 1, 1, 0, 1]), (.goto 4, [8])]),
  (false, [(.iconst 0, []), (.nop, [8])]),
  (true, [(.iastore, []), (.aload_n 0, []), (.getfield 192, [17, 90, 1]), (.iload_n 3, []), (.aload_n 0, []), (.getfield 809, [17, 98, 0]), (.iastore, []), (.aload_n 0, []), (.getfield 195, [17, 91, 1]), (.iload_n 3, []), (.iload_n 1, []), (.iastore, []), (.aload_n 0, []), (.getfield 201, [17, 93, 1]), (.iload_n 3, []), (.aload_n 0, []), (.getfield 812, [17, 95, 0]), (.iastore, []), (.aload_n 0, []), (.aload_n 0, []), (.getfield 803, [17, 88, 0]), (.iconst 1, []), (.iadd, []), (.putfield 803, [17, 88, 0]), (.aload_n 0, []), (.aload_n 0, []), (.getfield 803, [17, 88, 0]), (.aload_n 0, []), (.getfield 815, [17, 89, 0]), (.if_icmp .le 10, [9]), (.aload_n 0, []), (.getfield 803, [17, 88, 0]), (.goto 7, [10])]),
  (false, [(.aload_n 0, []), (.getfield 815, [17, 89, 0]), (.nop, [10])]),
  (true, [(.putfield 815, [17, 89, 0]), (.aload_n 0, []), (.aload_n 0, []), (.getfield 56, [17, 24, 1]), (.iload_n 1, []), (.iaload, []), (.putfield 809, [17, 98, 0]), (.aload_n 0, []), (.getfield 41, [17, 19, 1]), (.iload_n 1, []), (.iaload, []), (.iconst 1, []), (.if_icmp .eq 4, [11]), (.return_, [])]),
  (false, [(.aload_n 0, []), (.getfield 35, [17, 15, 1]), (.aload_n 0, []), (.getfield 38, [17, 18, 1]), (.iload_n 1, []), (.iaload, []), (.iaload, []), (.istore 4, []), (.aload_n 0, []), (.getfield 198, [17, 92, 1]), (.iload_n 3, []), (.aload_n 0, []), (.iload 4, []), (.iconst 1, []), (.if_icmp .ge 7, [12]), (.iconst 1, []), (.goto 5, [13])]),
  (false, [(.iload 4, []), (.nop, [13])]),
  (false, [(.invokevirtual 704, [1, 17, 84, 2, 1, 0, 1]), (.iastore, []), (.return_, [])])]
/-- TowerComputerModel.variable(I)I -/
def m_17_112 : List am_B := [
  (false, [(.aload_n 0, []), (.getfield 803, [17, 88, 0]), (.iconst 1, []), (.isub, []), (.istore_n 2, []), (.aload_n 0, []), (.getfield 65, [17, 28, 1]), (.iload_n 1, []), (.iaload, []), (.tableswitch 74 0 2 #[27, 39, 57], [4, 1, 2, 3])]),
  (false, [(.aload_n 0, []), (.getfield 183, [17, 84, 1]), (.aload_n 0, []), (.getfield 77, [17, 32, 1]), (.iload_n 1, []), (.iaload, []), (.iaload, []), (.ireturn, [])]),
  (false, [(.aload_n 0, []), (.aload_n 0, []), (.getfield 198, [17, 92, 1]), (.iload_n 2, []), (.iaload, []), (.aload_n 0, []), (.getfield 74, [17, 31, 1]), (.iload_n 1, []), (.iaload, []), (.iadd, []), (.invokevirtual 710, [1, 17, 79, 2, 1, 0, 1]), (.ireturn, [])]),
  (false, [(.aload_n 0, []), (.getfield 186, [17, 85, 1]), (.bipush 24, []), (.iload_n 2, []), (.imul, []), (.aload_n 0, []), (.getfield 74, [17, 31, 1]), (.iload_n 1, []), (.iaload, []), (.iadd, []), (.iaload, []), (.ireturn, [])]),
  (false, [(.aload_n 0, []), (.getfield 186, [17, 85, 1]), (.bipush 24, []), (.iload_n 2, []), (.imul, []), (.bipush 12, []), (.iadd, []), (.aload_n 0, []), (.getfield 74, [17, 31, 1]), (.iload_n 1, []), (.iaload, []), (.iadd, []), (.iaload, []), (.ireturn, [])])]
/-- TowerComputerModel.setVariable(II)V -/
def m_17_113 : List am_B := [
  (false, [(.aload_n 0, []), (.getfield 803, [17, 88, 0]), (.iconst 1, []), (.isub, []), (.istore_n 3, []), (.aload_n 0, []), (.getfield 65, [17, 28, 1]), (.iload_n 1, []), (.iaload, []), (.tableswitch 77 0 2 #[27, 40, 59], [4, 1, 2, 3])]),
  (false, [(.aload_n 0, []), (.getfield 183, [17, 84, 1]), (.aload_n 0, []), (.getfield 77, [17, 32, 1]), (.iload_n 1, []), (.iaload, []), (.iload_n 2, []), (.iastore, []), (.return_, [])]),
  (false, [(.aload_n 0, []), (.aload_n 0, []), (.getfield 198, [17, 92, 1]), (.iload_n 3, []), (.iaload, []), (.aload_n 0, []), (.getfield 74, [17, 31, 1]), (.iload_n 1, []), (.iaload, []), (.iadd, []), (.iload_n 2, []), (.invokevirtual 707, [1, 17, 80, 3, 0, 0, 1]), (.return_, [])]),
  (false, [(.aload_n 0, []), (.getfield 186, [17, 85, 1]), (.bipush 24, []), (.iload_n 3, []), (.imul, []), (.aload_n 0, []), (.getfield 74, [17, 31, 1]), (.iload_n 1, []), (.iaload, []), (.iadd, []), (.iload_n 2, []), (.iastore, []), (.return_, [])]),
  (false, [(.aload_n 0, []), (.getfield 186, [17, 85, 1]), (.bipush 24, []), (.iload_n 3, []), (.imul, []), (.bipush 12, []), (.iadd, []), (.aload_n 0, []), (.getfield 74, [17, 31, 1]), (.iload_n 1, []), (.iaload, []), (.iadd, []), (.iload_n 2, []), (.iastore, []), (.return_, [])])]
/-- TowerComputerModel.sign(III)I -/
def m_17_114 : List am_B := [
  (false, [(.iload_n 1, []), (.lookupswitch 138 #[(38, 108), (42, 83), (43, 75), (45, 79), (47, 87), (60, 116), (62, 127), (124, 112)], [16, 8, 3, 1, 2, 4, 10, 13, 9])]),
  (false, [(.iload_n 2, []), (.iload_n 3, []), (.iadd, []), (.ireturn, [])]),
  (false, [(.iload_n 2, []), (.iload_n 3, []), (.isub, []), (.ireturn, [])]),
  (false, [(.iload_n 2, []), (.iload_n 3, []), (.imul, []), (.ireturn, [])]),
  (false, [(.iload_n 3, []), (.ifCond .ne 8, [5]), (.aload_n 0, []), (.iconst 3, []), (.invokevirtual 689, [1, 17, 77, 2, 0, 0, 1]), (.nop, [5])]),
  (false, [(.iload_n 3, []), (.ifCond .ne 7, [6]), (.iconst 0, []), (.goto 6, [7])]),
  (false, [(.iload_n 2, []), (.iload_n 3, []), (.idiv, []), (.nop, [7])]),
  (false, [(.ireturn, [])]),
  (false, [(.iload_n 2, []), (.iload_n 3, []), (.iand, []), (.ireturn, [])]),
  (false, [(.iload_n 2, []), (.iload_n 3, []), (.ior, []), (.ireturn, [])]),
  (false, [(.iload_n 2, []), (.iload_n 3, []), (.if_icmp .ge 7, [11]), (.iconst (-1), []), (.goto 4, [12])]),
  (false, [(.iconst 0, []), (.nop, [12])]),
  (false, [(.ireturn, [])]),
  (false, [(.iload_n 2, []), (.iload_n 3, []), (.if_icmp .le 7, [14]), (.iconst (-1), []), (.goto 4, [15])]),
  (false, [(.iconst 0, []), (.nop, [15])]),
  (false, [(.ireturn, [])]),
  (false, [(.iload_n 2, []), (.iload_n 3, []), (.if_icmp .ne 7, [17]), (.iconst (-1), []), (.goto 4, [18])]),
  (false, [(.iconst 0, []), (.nop, [18])]),
  (false, [(.ireturn, [])])]
/-- TowerComputerModel.callItem(I)V -/
def m_17_115 : List am_B := [
  (false, [(.aload_n 0, []), (.getfield 110, [17, 45, 1]), (.iload_n 1, []), (.iaload, []), (.istore_n 2, []), (.aload_n 0, []), (.getfield 113, [17, 46, 1]), (.iload_n 1, []), (.iaload, []), (.istore_n 3, []), (.iload_n 2, []), (.bipush 8, []), (.if_icmp .lt 9, [1]), (.aload_n 0, []), (.iload_n 3, []), (.invokevirtual 818, [1, 17, 111, 2, 0, 0, 1]), (.return_, [])]),
  (false, [(.aload_n 0, []), (.getfield 101, [17, 42, 1]), (.iload_n 1, []), (.iaload, []), (.aload_n 0, []), (.getfield 104, [17, 43, 1]), (.iload_n 1, []), (.iaload, []), (.ifCond .le 7, [2]), (.iconst 1, []), (.goto 4, [3])]),
  (false, [(.iconst 0, []), (.nop, [3])]),
  (false, [(.iadd, []), (.istore 4, []), (.iload 4, []), (.iconst 1, []), (.isub, []), (.istore 5, []), (.nop, [4])]),
  (true, [(.iload 5, []), (.ifCond .lt 20, [5]), (.aload_n 0, []), (.getfield 213, [17, 109, 1]), (.iload 5, []), (.aload_n 0, []), (.invokevirtual 806, [1, 17, 82, 1, 1, 0, 1]), (.iastore, []), (.iinc 5 (-1), []), (.goto (-19), [4])]),
  (false, [(.aload_n 0, []), (.aload_n 0, []), (.iload_n 2, []), (.iload_n 3, []), (.aload_n 0, []), (.getfield 140, [17, 63, 1]), (.iload_n 2, []), (.iaload, []), (.isub, []), (.invokevirtual 821, [1, 17, 109, 3, 1, 0, 1]), (.invokevirtual 824, [1, 17, 81, 2, 0, 0, 1]), (.return_, [])])]
/-- TowerComputerModel.stringItem(I)V -/
def m_17_116 : List am_B := [
  (false, [(.aload_n 0, []), (.aload_n 0, []), (.getfield 86, [17, 36, 1]), (.iload_n 1, []), (.iaload, []), (.invokevirtual 731, [1, 17, 88, 2, 1, 0, 1]), (.istore_n 2, []), (.iconst 0, []), (.istore_n 3, []), (.nop, [1])]),
  (true, [(.iload_n 3, []), (.aload_n 0, []), (.getfield 86, [17, 36, 1]), (.iload_n 1, []), (.iaload, []), (.if_icmp .ge 37, [2]), (.aload_n 0, []), (.getfield 677, [17, 99, 0]), (.iconst (-1), []), (.if_icmp .ne 29, [2]), (.aload_n 0, []), (.iload_n 2, []), (.aload_n 0, []), (.getfield 162, [17, 75, 1]), (.aload_n 0, []), (.getfield 159, [17, 73, 1]), (.iload_n 1, []), (.iaload, []), (.iconst 1, []), (.iadd, []), (.iload_n 3, []), (.iadd, []), (.iaload, []), (.invokevirtual 713, [1, 17, 89, 3, 0, 0, 1]), (.iinc 3 1, []), (.goto (-41), [1])]),
  (false, [(.aload_n 0, []), (.iload_n 2, []), (.invokevirtual 824, [1, 17, 81, 2, 0, 0, 1]), (.return_, [])])]
/-- TowerComputerModel.returns()V -/
def m_17_117 : List am_B := [
  (false, [(.aload_n 0, []), (.invokevirtual 806, [1, 17, 82, 1, 1, 0, 1]), (.istore_n 1, []), (.aload_n 0, []), (.aload_n 0, []), (.getfield 803, [17, 88, 0]), (.iconst 1, []), (.isub, []), (.putfield 803, [17, 88, 0]), (.aload_n 0, []), (.aload_n 0, []), (.getfield 201, [17, 93, 1]), (.aload_n 0, []), (.getfield 803, [17, 88, 0]), (.iaload, []), (.putfield 812, [17, 95, 0]), (.aload_n 0, []), (.aload_n 0, []), (.getfield 192, [17, 90, 1]), (.aload_n 0, []), (.getfield 803, [17, 88, 0]), (.iaload, []), (.putfield 809, [17, 98, 0]), (.aload_n 0, []), (.getfield 803, [17, 88, 0]), (.ifCond .ne 11, [1]), (.aload_n 0, []), (.iconst 0, []), (.putfield 677, [17, 99, 0]), (.goto 8, [2])]),
  (false, [(.aload_n 0, []), (.iload_n 1, []), (.invokevirtual 824, [1, 17, 81, 2, 0, 0, 1]), (.nop, [2])]),
  (false, [(.return_, [])])]
/-- TowerComputerModel.doItem()V -/
def m_17_118 : List am_B := [
  (false, [(.aload_n 0, []), (.getfield 809, [17, 98, 0]), (.istore_n 1, []), (.aload_n 0, []), (.aload_n 0, []), (.getfield 809, [17, 98, 0]), (.iconst 1, []), (.iadd, []), (.putfield 809, [17, 98, 0]), (.aload_n 0, []), (.getfield 80, [17, 34, 1]), (.iload_n 1, []), (.iaload, []), (.tableswitch 249 0 10 #[59, 70, 249, 76, 92, 107, 127, 152, 162, 173, 238], [13, 1, 2, 13, 3, 4, 5, 6, 7, 8, 9, 12])]),
  (false, [(.aload_n 0, []), (.aload_n 0, []), (.getfield 83, [17, 35, 1]), (.iload_n 1, []), (.iaload, []), (.invokevirtual 824, [1, 17, 81, 2, 0, 0, 1]), (.return_, [])]),
  (false, [(.aload_n 0, []), (.iload_n 1, []), (.invokevirtual 827, [1, 17, 116, 2, 0, 0, 1]), (.return_, [])]),
  (false, [(.aload_n 0, []), (.aload_n 0, []), (.getfield 198, [17, 92, 1]), (.aload_n 0, []), (.getfield 803, [17, 88, 0]), (.iconst 1, []), (.isub, []), (.iaload, []), (.invokevirtual 824, [1, 17, 81, 2, 0, 0, 1]), (.return_, [])]),
  (false, [(.aload_n 0, []), (.aload_n 0, []), (.aload_n 0, []), (.getfield 83, [17, 35, 1]), (.iload_n 1, []), (.iaload, []), (.invokevirtual 830, [1, 17, 112, 2, 1, 0, 1]), (.invokevirtual 824, [1, 17, 81, 2, 0, 0, 1]), (.return_, [])]),
  (false, [(.aload_n 0, []), (.invokevirtual 806, [1, 17, 82, 1, 1, 0, 1]), (.istore_n 2, []), (.aload_n 0, []), (.aload_n 0, []), (.aload_n 0, []), (.invokevirtual 806, [1, 17, 82, 1, 1, 0, 1]), (.iload_n 2, []), (.iadd, []), (.invokevirtual 710, [1, 17, 79, 2, 1, 0, 1]), (.invokevirtual 824, [1, 17, 81, 2, 0, 0, 1]), (.return_, [])]),
  (false, [(.aload_n 0, []), (.invokevirtual 806, [1, 17, 82, 1, 1, 0, 1]), (.istore_n 2, []), (.aload_n 0, []), (.aload_n 0, []), (.aload_n 0, []), (.getfield 83, [17, 35, 1]), (.iload_n 1, []), (.iaload, []), (.aload_n 0, []), (.invokevirtual 806, [1, 17, 82, 1, 1, 0, 1]), (.iload_n 2, []), (.invokevirtual 833, [1, 17, 114, 4, 1, 0, 1]), (.invokevirtual 824, [1, 17, 81, 2, 0, 0, 1]), (.return_, [])]),
  (false, [(.aload_n 0, []), (.aload_n 0, []), (.invokevirtual 806, [1, 17, 82, 1, 1, 0, 1]), (.ineg, []), (.invokevirtual 824, [1, 17, 81, 2, 0, 0, 1]), (.return_, [])]),
  (false, [(.aload_n 0, []), (.aload_n 0, []), (.invokevirtual 806, [1, 17, 82, 1, 1, 0, 1]), (.iconst (-1), []), (.ixor, []), (.invokevirtual 824, [1, 17, 81, 2, 0, 0, 1]), (.return_, [])]),
  (false, [(.aload_n 0, []), (.getfield 104, [17, 43, 1]), (.aload_n 0, []), (.getfield 83, [17, 35, 1]), (.iload_n 1, []), (.iaload, []), (.iaload, []), (.iconst 1, []), (.if_icmp .ne 22, [10]), (.aload_n 0, []), (.aload_n 0, []), (.aload_n 0, []), (.getfield 107, [17, 44, 1]), (.aload_n 0, []), (.getfield 83, [17, 35, 1]), (.iload_n 1, []), (.iaload, []), (.iaload, []), (.invokevirtual 830, [1, 17, 112, 2, 1, 0, 1]), (.invokevirtual 824, [1, 17, 81, 2, 0, 0, 1]), (.nop, [10])]),
  (true, [(.aload_n 0, []), (.getfield 104, [17, 43, 1]), (.aload_n 0, []), (.getfield 83, [17, 35, 1]), (.iload_n 1, []), (.iaload, []), (.iaload, []), (.iconst 2, []), (.if_icmp .ne 18, [11]), (.aload_n 0, []), (.aload_n 0, []), (.getfield 198, [17, 92, 1]), (.aload_n 0, []), (.getfield 803, [17, 88, 0]), (.iconst 1, []), (.isub, []), (.iaload, []), (.invokevirtual 824, [1, 17, 81, 2, 0, 0, 1]), (.nop, [11])]),
  (false, [(.return_, [])]),
  (false, [(.aload_n 0, []), (.aload_n 0, []), (.getfield 83, [17, 35, 1]), (.iload_n 1, []), (.iaload, []), (.invokevirtual 836, [1, 17, 115, 2, 0, 0, 1]), (.return_, [])]),
  (false, [(.aload_n 0, []), (.iload_n 1, []), (.invokevirtual 839, [1, 17, 119, 2, 0, 0, 1]), (.return_, [])])]
/-- TowerComputerModel.doStatementItem(I)V -/
def m_17_119 : List am_B := [
  (false, [(.aload_n 0, []), (.getfield 80, [17, 34, 1]), (.iload_n 1, []), (.iaload, []), (.tableswitch 180 11 19 #[50, 93, 104, 119, 134, 152, 163, 169, 174], [12, 1, 3, 4, 5, 6, 8, 9, 10, 11])]),
  (false, [(.aload_n 0, []), (.invokevirtual 800, [1, 17, 110, 1, 1, 0, 1]), (.ifCond .ne 13, [2]), (.aload_n 0, []), (.aload_n 0, []), (.getfield 159, [17, 73, 1]), (.iload_n 1, []), (.iaload, []), (.putfield 16, [17, 4, 0]), (.nop, [2])]),
  (true, [(.aload_n 0, []), (.getfield 204, [17, 94, 1]), (.aload_n 0, []), (.getfield 812, [17, 95, 0]), (.aload_n 0, []), (.getfield 159, [17, 73, 1]), (.iload_n 1, []), (.iaload, []), (.iastore, []), (.aload_n 0, []), (.aload_n 0, []), (.getfield 812, [17, 95, 0]), (.iconst 1, []), (.iadd, []), (.putfield 812, [17, 95, 0]), (.return_, [])]),
  (false, [(.aload_n 0, []), (.aload_n 0, []), (.getfield 812, [17, 95, 0]), (.iconst 1, []), (.isub, []), (.putfield 812, [17, 95, 0]), (.return_, [])]),
  (false, [(.aload_n 0, []), (.aload_n 0, []), (.getfield 83, [17, 35, 1]), (.iload_n 1, []), (.iaload, []), (.aload_n 0, []), (.invokevirtual 806, [1, 17, 82, 1, 1, 0, 1]), (.invokevirtual 842, [1, 17, 113, 3, 0, 0, 1]), (.return_, [])]),
  (false, [(.aload_n 0, []), (.invokevirtual 806, [1, 17, 82, 1, 1, 0, 1]), (.istore_n 2, []), (.aload_n 0, []), (.aload_n 0, []), (.invokevirtual 806, [1, 17, 82, 1, 1, 0, 1]), (.iload_n 2, []), (.invokevirtual 707, [1, 17, 80, 3, 0, 0, 1]), (.return_, [])]),
  (false, [(.aload_n 0, []), (.invokevirtual 806, [1, 17, 82, 1, 1, 0, 1]), (.ifCond .ne 13, [7]), (.aload_n 0, []), (.aload_n 0, []), (.getfield 83, [17, 35, 1]), (.iload_n 1, []), (.iaload, []), (.putfield 809, [17, 98, 0]), (.nop, [7])]),
  (false, [(.return_, [])]),
  (false, [(.aload_n 0, []), (.aload_n 0, []), (.getfield 83, [17, 35, 1]), (.iload_n 1, []), (.iaload, []), (.putfield 809, [17, 98, 0]), (.return_, [])]),
  (false, [(.aload_n 0, []), (.invokevirtual 800, [1, 17, 110, 1, 1, 0, 1]), (.istore_n 3, []), (.return_, [])]),
  (false, [(.aload_n 0, []), (.invokevirtual 845, [1, 17, 117, 1, 0, 0, 1]), (.return_, [])]),
  (false, [(.aload_n 0, []), (.invokevirtual 806, [1, 17, 82, 1, 1, 0, 1]), (.istore_n 2, []), (.return_, [])]),
  (false, [(.return_, [])])]
/-- TowerComputerModel.keys(I)Z -/
def m_17_120 : List am_B := [
  (false, [(.iload_n 1, []), (.ifCond .lt 18, [1]), (.iload_n 1, []), (.sipush 200, []), (.if_icmp .gt 11, [1]), (.iload_n 1, []), (.aload_n 0, []), (.getfield 357, [17, 1, 0]), (.if_icmp .le 5, [2]), (.nop, [1])]),
  (false, [(.iconst 0, []), (.ireturn, [1])]),
  (false, [(.iconst 0, []), (.istore_n 2, []), (.nop, [3])]),
  (true, [(.iload_n 2, []), (.iload_n 1, []), (.if_icmp .ge 21, [4]), (.aload_n 0, []), (.getfield 207, [17, 101, 1]), (.iload_n 2, []), (.aload_n 0, []), (.getfield 7, [17, 0, 1]), (.iload_n 2, []), (.iaload, []), (.iastore, []), (.iinc 2 1, []), (.goto (-20), [3])]),
  (false, [(.aload_n 0, []), (.iload_n 1, []), (.putfield 737, [17, 102, 0]), (.aload_n 0, []), (.iconst 0, []), (.putfield 357, [17, 1, 0]), (.iconst 1, []), (.ireturn, [1])])]
/-- TowerComputerModel.run(I)I -/
def m_17_121 : List am_B := [
  (false, [(.aload_n 0, []), (.getfield 631, [17, 71, 3]), (.ifCond .eq 14, [1]), (.iload_n 1, []), (.ifCond .lt 10, [1]), (.iload_n 1, []), (.sipush 5000, []), (.if_icmp .le 5, [2]), (.nop, [1])]),
  (false, [(.iconst (-1), []), (.ireturn, [])]),
  (false, [(.iconst 0, []), (.istore_n 2, []), (.nop, [3])]),
  (true, [(.iload_n 2, []), (.sipush 16512, []), (.if_icmp .ge 16, [4]), (.aload_n 0, []), (.getfield 174, [17, 80, 1]), (.iload_n 2, []), (.iconst 0, []), (.iastore, []), (.iinc 2 1, []), (.goto (-17), [3])]),
  (false, [(.iconst 0, []), (.istore_n 2, []), (.nop, [5])]),
  (true, [(.iload_n 2, []), (.bipush 12, []), (.if_icmp .ge 16, [6]), (.aload_n 0, []), (.getfield 183, [17, 84, 1]), (.iload_n 2, []), (.iconst 0, []), (.iastore, []), (.iinc 2 1, []), (.goto (-16), [5])]),
  (false, [(.aload_n 0, []), (.iconst 0, []), (.putfield 695, [17, 81, 0]), (.aload_n 0, []), (.iconst 0, []), (.putfield 692, [17, 87, 0]), (.aload_n 0, []), (.iconst 0, []), (.putfield 803, [17, 88, 0]), (.aload_n 0, []), (.iconst 0, []), (.putfield 815, [17, 89, 0]), (.aload_n 0, []), (.iconst 0, []), (.putfield 812, [17, 95, 0]), (.aload_n 0, []), (.iconst 0, []), (.putfield 794, [17, 96, 0]), (.aload_n 0, []), (.iload_n 1, []), (.putfield 797, [17, 97, 0]), (.aload_n 0, []), (.iconst 0, []), (.putfield 809, [17, 98, 0]), (.aload_n 0, []), (.iconst (-1), []), (.putfield 677, [17, 99, 0]), (.aload_n 0, []), (.iconst 0, []), (.putfield 680, [17, 100, 0]), (.aload_n 0, []), (.iconst 0, []), (.putfield 734, [17, 103, 0]), (.aload_n 0, []), (.iconst 0, []), (.putfield 701, [17, 106, 0]), (.aload_n 0, []), (.iconst 0, []), (.putfield 848, [17, 107, 0]), (.aload_n 0, []), (.iconst 1, []), (.putfield 740, [17, 108, 3]), (.aload_n 0, []), (.aload_n 0, []), (.getfield 621, [17, 72, 0]), (.invokevirtual 818, [1, 17, 111, 2, 0, 0, 1]), (.nop, [7])]),
  (true, [(.aload_n 0, []), (.getfield 677, [17, 99, 0]), (.iconst (-1), []), (.if_icmp .ne 10, [8]), (.aload_n 0, []), (.invokevirtual 851, [1, 17, 118, 1, 0, 0, 1]), (.goto (-12), [7])]),
  (false, [(.aload_n 0, []), (.aload_n 0, []), (.getfield 677, [17, 99, 0]), (.ifCond .ne 7, [9]), (.iconst (-1), []), (.goto 28, [11])]),
  (false, [(.aload_n 0, []), (.getfield 812, [17, 95, 0]), (.ifCond .le 17, [10]), (.aload_n 0, []), (.getfield 204, [17, 94, 1]), (.aload_n 0, []), (.getfield 812, [17, 95, 0]), (.iconst 1, []), (.isub, []), (.iaload, []), (.goto 7, [11])]),
  (false, [(.aload_n 0, []), (.getfield 656, [17, 74, 0]), (.nop, [11])]),
  (false, [(.putfield 16, [17, 4, 0]), (.aload_n 0, []), (.aload_n 0, []), (.getfield 737, [17, 102, 0]), (.aload_n 0, []), (.getfield 734, [17, 103, 0]), (.isub, []), (.putfield 854, [17, 104, 0]), (.aload_n 0, []), (.getfield 677, [17, 99, 0]), (.ireturn, [])])]
/-- TowerComputerModel.place()I -/
def m_17_122 : List am_B := [
  (false, [(.aload_n 0, []), (.getfield 16, [17, 4, 0]), (.ireturn, [])])]
/-- TowerComputerModel.error()I -/
def m_17_123 : List am_B := [
  (false, [(.aload_n 0, []), (.getfield 680, [17, 100, 0]), (.ireturn, [])])]
/-- TowerComputerModel.fetch()J -/
def m_17_124 : List am_B := [
  (false, [(.aload_n 0, []), (.getfield 701, [17, 106, 0]), (.aload_n 0, []), (.getfield 848, [17, 107, 0]), (.isub, []), (.bipush 7, []), (.if_icmp .le 8, [1]), (.bipush 7, []), (.goto 12, [2])]),
  (false, [(.aload_n 0, []), (.getfield 701, [17, 106, 0]), (.aload_n 0, []), (.getfield 848, [17, 107, 0]), (.isub, []), (.nop, [2])]),
  (false, [(.istore_n 1, [1]), (.iload_n 1, []), (.i2l, []), (.lstore_n 2, [1]), (.iconst 0, []), (.istore 4, [1]), (.nop, [3])]),
  (true, [(.iload 4, []), (.bipush 7, []), (.if_icmp .ge 38, [6]), (.lload_n 2, []), (.bipush 8, []), (.lshl, []), (.iload 4, []), (.iload_n 1, []), (.if_icmp .ge 18, [4]), (.aload_n 0, []), (.getfield 210, [17, 105, 1]), (.aload_n 0, []), (.getfield 848, [17, 107, 0]), (.iload 4, []), (.iadd, []), (.iaload, []), (.goto 4, [5])]),
  (false, [(.iconst 0, []), (.nop, [5])]),
  (false, [(.i2l, []), (.lor, []), (.lstore_n 2, [1]), (.iinc 4 1, []), (.goto (-39), [3])]),
  (false, [(.aload_n 0, []), (.aload_n 0, []), (.getfield 848, [17, 107, 0]), (.iload_n 1, []), (.iadd, []), (.putfield 848, [17, 107, 0]), (.lload_n 2, []), (.lreturn, [])])]
/-- TowerComputerModel.row(I)J -/
def m_17_125 : List am_B := [
  (false, [(.iload_n 1, []), (.ifCond .lt 9, [1]), (.iload_n 1, []), (.bipush 31, []), (.if_icmp .le 5, [2]), (.nop, [1])]),
  (false, [(.lconst 0, []), (.lreturn, [])]),
  (false, [(.lconst 0, []), (.lstore_n 2, [1]), (.iconst 3, []), (.istore 4, [1]), (.nop, [3])]),
  (true, [(.iload 4, []), (.ifCond .lt 35, [4]), (.lload_n 2, []), (.bipush 16, []), (.lshl, []), (.aload_n 0, []), (.getfield 174, [17, 80, 1]), (.sipush 16384, []), (.iconst 4, []), (.iload_n 1, []), (.imul, []), (.iadd, []), (.iload 4, []), (.iadd, []), (.iaload, []), (.ldc_w 857, [0, 65535]), (.iand, []), (.i2l, []), (.lor, []), (.lstore_n 2, [1]), (.iinc 4 (-1), []), (.goto (-34), [3])]),
  (false, [(.lload_n 2, []), (.lreturn, [])])]
/-- TowerComputerModel.word(I)I -/
def m_17_126 : List am_B := [
  (false, [(.iload_n 1, []), (.invokestatic 686, [0, 17, 78, 1, 1, 0, 1]), (.ifCond .eq 12, [1]), (.aload_n 0, []), (.getfield 174, [17, 80, 1]), (.iload_n 1, []), (.iaload, []), (.goto 6, [2])]),
  (false, [(.ldc_w 858, [0, 100000]), (.nop, [2])]),
  (false, [(.ireturn, [])])]
/-- TowerComputerModel.count(I)I -/
def m_17_127 : List am_B := [
  (false, [(.iload_n 1, []), (.tableswitch 124 0 7 #[47, 52, 57, 62, 91, 96, 106, 111], [13, 1, 2, 3, 4, 7, 8, 9, 10])]),
  (false, [(.aload_n 0, []), (.getfield 357, [17, 1, 0]), (.ireturn, [])]),
  (false, [(.aload_n 0, []), (.getfield 794, [17, 96, 0]), (.ireturn, [])]),
  (false, [(.aload_n 0, []), (.getfield 815, [17, 89, 0]), (.ireturn, [])]),
  (false, [(.iconst 0, []), (.istore_n 2, []), (.iconst 0, []), (.istore_n 3, []), (.nop, [5])]),
  (true, [(.iload_n 3, []), (.aload_n 0, []), (.getfield 695, [17, 81, 0]), (.if_icmp .ge 18, [6]), (.iload_n 2, []), (.aload_n 0, []), (.getfield 180, [17, 83, 1]), (.iload_n 3, []), (.iaload, []), (.iadd, []), (.istore_n 2, []), (.iinc 3 1, []), (.goto (-20), [5])]),
  (false, [(.iload_n 2, []), (.ireturn, [])]),
  (false, [(.aload_n 0, []), (.getfield 695, [17, 81, 0]), (.ireturn, [])]),
  (false, [(.aload_n 0, []), (.getfield 701, [17, 106, 0]), (.aload_n 0, []), (.getfield 848, [17, 107, 0]), (.isub, []), (.ireturn, [])]),
  (false, [(.aload_n 0, []), (.getfield 854, [17, 104, 0]), (.ireturn, [])]),
  (false, [(.aload_n 0, []), (.getfield 631, [17, 71, 3]), (.ifCond .eq 7, [11]), (.iconst 1, []), (.goto 4, [12])]),
  (false, [(.iconst 0, []), (.nop, [12])]),
  (false, [(.ireturn, [])]),
  (false, [(.iconst (-1), []), (.ireturn, [])])]
/-- TowerComputerModel.isBlank(I)Z -/
def m_17_128 : List am_B := [
  (false, [(.iload_n 0, []), (.bipush 9, []), (.if_icmp .eq 15, [1]), (.iload_n 0, []), (.bipush 13, []), (.if_icmp .eq 9, [1]), (.iload_n 0, []), (.bipush 32, []), (.if_icmp .ne 7, [2]), (.nop, [1])]),
  (false, [(.iconst 1, []), (.goto 4, [3])]),
  (false, [(.iconst 0, []), (.nop, [3])]),
  (false, [(.ireturn, [1])])]
/-- TowerComputerModel.isSymbolByte(I)Z -/
def m_17_129 : List am_B := [
  (false, [(.iload_n 0, []), (.invokestatic 397, [0, 17, 7, 1, 1, 0, 1]), (.ifCond .ne 21, [1]), (.iload_n 0, []), (.bipush 46, []), (.if_icmp .eq 15, [1]), (.iload_n 0, []), (.bipush 36, []), (.if_icmp .eq 9, [1]), (.iload_n 0, []), (.bipush 58, []), (.if_icmp .ne 7, [2]), (.nop, [1])]),
  (false, [(.iconst 1, []), (.goto 4, [3])]),
  (false, [(.iconst 0, []), (.nop, [3])]),
  (false, [(.ireturn, [1])])]
/-- TowerComputerModel.isSymbol(II)Z -/
def m_17_130 : List am_B := [
  (false, [(.iload_n 2, []), (.iconst 1, []), (.if_icmp .lt 21, [1]), (.iload_n 2, []), (.bipush 16, []), (.if_icmp .gt 15, [1]), (.aload_n 0, []), (.getfield 13, [17, 2, 1]), (.iload_n 1, []), (.iaload, []), (.invokestatic 371, [0, 17, 6, 1, 1, 0, 1]), (.ifCond .eq 5, [2]), (.nop, [1])]),
  (false, [(.iconst 0, []), (.ireturn, [1])]),
  (false, [(.iconst 1, []), (.istore_n 3, []), (.iconst 0, []), (.istore 4, []), (.nop, [3])]),
  (true, [(.iload 4, []), (.iload_n 2, []), (.if_icmp .ge 34, [6]), (.iload_n 3, []), (.ifCond .eq 22, [4]), (.aload_n 0, []), (.getfield 13, [17, 2, 1]), (.iload_n 1, []), (.iload 4, []), (.iadd, []), (.iaload, []), (.invokestatic 859, [0, 17, 129, 1, 1, 0, 1]), (.ifCond .eq 7, [4]), (.iconst 1, []), (.goto 4, [5])]),
  (false, [(.iconst 0, []), (.nop, [5])]),
  (false, [(.istore_n 3, []), (.iinc 4 1, []), (.goto (-34), [3])]),
  (false, [(.iload_n 3, []), (.ireturn, [1])])]
/-- TowerComputerModel.knownOf(II)I -/
def m_17_131 : List am_B := [
  (false, [(.aload_n 0, []), (.getstatic 862, [171]), (.iload_n 1, []), (.iload_n 2, []), (.invokevirtual 400, [1, 17, 10, 4, 1, 0, 1]), (.istore_n 3, []), (.iload_n 3, []), (.ifCond .lt 27, [4]), (.iload_n 3, []), (.iconst 5, []), (.if_icmp .ge 7, [1]), (.iload_n 3, []), (.goto 17, [3])]),
  (false, [(.iload_n 3, []), (.iconst 5, []), (.if_icmp .ne 9, [2]), (.sipush 16384, []), (.goto 6, [3])]),
  (false, [(.sipush 24576, []), (.nop, [3])]),
  (false, [(.ireturn, [])]),
  (false, [(.aload_n 0, []), (.getfield 13, [17, 2, 1]), (.iload_n 1, []), (.iaload, []), (.bipush 82, []), (.if_icmp .ne 46, [5]), (.iload_n 2, []), (.iconst 2, []), (.if_icmp .lt 41, [5]), (.iload_n 2, []), (.iconst 3, []), (.if_icmp .gt 36, [5]), (.aload_n 0, []), (.getfield 13, [17, 2, 1]), (.iload_n 1, []), (.iconst 1, []), (.iadd, []), (.iaload, []), (.invokestatic 371, [0, 17, 6, 1, 1, 0, 1]), (.ifCond .eq 22, [5]), (.iload_n 2, []), (.iconst 3, []), (.if_icmp .ne 19, [6]), (.aload_n 0, []), (.getfield 13, [17, 2, 1]), (.iload_n 1, []), (.iconst 2, []), (.iadd, []), (.iaload, []), (.invokestatic 371, [0, 17, 6, 1, 1, 0, 1]), (.ifCond .ne 5, [6]), (.nop, [5])]),
  (false, [(.iconst (-1), []), (.ireturn, [])]),
  (true, [(.iload_n 2, []), (.iconst 2, []), (.if_icmp .ne 17, [7]), (.aload_n 0, []), (.getfield 13, [17, 2, 1]), (.iload_n 1, []), (.iconst 1, []), (.iadd, []), (.iaload, []), (.bipush 48, []), (.isub, []), (.goto 29, [8])]),
  (false, [(.bipush 10, []), (.aload_n 0, []), (.getfield 13, [17, 2, 1]), (.iload_n 1, []), (.iconst 1, []), (.iadd, []), (.iaload, []), (.bipush 48, []), (.isub, []), (.imul, []), (.aload_n 0, []), (.getfield 13, [17, 2, 1]), (.iload_n 1, []), (.iconst 2, []), (.iadd, []), (.iaload, []), (.iadd, []), (.bipush 48, []), (.isub, []), (.nop, [8])]),
  (true, [(.istore 4, []), (.iload_n 2, []), (.iconst 3, []), (.if_icmp .ne 16, [9]), (.aload_n 0, []), (.getfield 13, [17, 2, 1]), (.iload_n 1, []), (.iconst 1, []), (.iadd, []), (.iaload, []), (.bipush 49, []), (.if_icmp .ne 10, [10]), (.nop, [9])]),
  (false, [(.iload 4, []), (.bipush 15, []), (.if_icmp .le 7, [11]), (.nop, [10])]),
  (false, [(.iconst (-1), []), (.goto 5, [12])]),
  (false, [(.iload 4, []), (.nop, [12])]),
  (false, [(.ireturn, [])])]
/-- TowerComputerModel.symbolOf(II)I -/
def m_17_132 : List am_B := [
  (false, [(.iconst 0, []), (.istore_n 3, []), (.nop, [1])]),
  (true, [(.iload_n 3, []), (.aload_n 0, []), (.getfield 865, [17, 112, 0]), (.if_icmp .ge 71, [5]), (.iconst 0, []), (.istore 4, []), (.nop, [2])]),
  (true, [(.iload 4, []), (.iload_n 2, []), (.if_icmp .ge 48, [3]), (.aload_n 0, []), (.getfield 222, [17, 114, 1]), (.iload_n 3, []), (.iaload, []), (.iload_n 2, []), (.if_icmp .ne 38, [3]), (.aload_n 0, []), (.getfield 13, [17, 2, 1]), (.aload_n 0, []), (.getfield 219, [17, 113, 1]), (.iload_n 3, []), (.iaload, []), (.iload 4, []), (.iadd, []), (.iaload, []), (.aload_n 0, []), (.getfield 13, [17, 2, 1]), (.iload_n 1, []), (.iload 4, []), (.iadd, []), (.iaload, []), (.if_icmp .ne 12, [3]), (.iload 4, []), (.iconst 1, []), (.iadd, []), (.istore 4, []), (.goto (-48), [2])]),
  (false, [(.iload 4, []), (.iload_n 2, []), (.if_icmp .ne 5, [4]), (.iload_n 3, []), (.ireturn, [])]),
  (false, [(.iinc 3 1, []), (.goto (-73), [1])]),
  (false, [(.aload_n 0, []), (.getfield 865, [17, 112, 0]), (.bipush 100, []), (.if_icmp .ne 5, [6]), (.iconst (-1), []), (.ireturn, [])]),
  (false, [(.aload_n 0, []), (.getfield 219, [17, 113, 1]), (.aload_n 0, []), (.getfield 865, [17, 112, 0]), (.iload_n 1, []), (.iastore, []), (.aload_n 0, []), (.getfield 222, [17, 114, 1]), (.aload_n 0, []), (.getfield 865, [17, 112, 0]), (.iload_n 2, []), (.iastore, []), (.aload_n 0, []), (.getfield 225, [17, 115, 1]), (.aload_n 0, []), (.getfield 865, [17, 112, 0]), (.iconst (-1), []), (.iastore, []), (.aload_n 0, []), (.aload_n 0, []), (.getfield 865, [17, 112, 0]), (.iconst 1, []), (.iadd, []), (.putfield 865, [17, 112, 0]), (.aload_n 0, []), (.getfield 865, [17, 112, 0]), (.iconst 1, []), (.isub, []), (.ireturn, [])])]
/-- TowerComputerModel.label(II)I -/
def m_17_133 : List am_B := [
  (false, [(.iload_n 2, []), (.iconst 3, []), (.if_icmp .lt 31, [1]), (.aload_n 0, []), (.getfield 13, [17, 2, 1]), (.iload_n 1, []), (.iload_n 2, []), (.iadd, []), (.iconst 1, []), (.isub, []), (.iaload, []), (.bipush 41, []), (.if_icmp .ne 16, [1]), (.aload_n 0, []), (.iload_n 1, []), (.iconst 1, []), (.iadd, []), (.iload_n 2, []), (.iconst 2, []), (.isub, []), (.invokevirtual 868, [1, 17, 130, 3, 1, 0, 1]), (.ifCond .ne 5, [2]), (.nop, [1])]),
  (false, [(.iconst 1, []), (.ireturn, [])]),
  (false, [(.aload_n 0, []), (.iload_n 1, []), (.iconst 1, []), (.iadd, []), (.iload_n 2, []), (.iconst 2, []), (.isub, []), (.invokevirtual 871, [1, 17, 131, 3, 1, 0, 1]), (.iconst (-1), []), (.if_icmp .eq 5, [3]), (.iconst 3, []), (.ireturn, [])]),
  (false, [(.aload_n 0, []), (.iload_n 1, []), (.iconst 1, []), (.iadd, []), (.iload_n 2, []), (.iconst 2, []), (.isub, []), (.invokevirtual 874, [1, 17, 132, 3, 1, 0, 1]), (.istore_n 3, []), (.iload_n 3, []), (.iconst (-1), []), (.if_icmp .ne 5, [4]), (.iconst 2, []), (.ireturn, [])]),
  (false, [(.aload_n 0, []), (.getfield 225, [17, 115, 1]), (.iload_n 3, []), (.iaload, []), (.iconst (-1), []), (.if_icmp .eq 5, [5]), (.iconst 3, []), (.ireturn, [])]),
  (false, [(.aload_n 0, []), (.getfield 225, [17, 115, 1]), (.iload_n 3, []), (.aload_n 0, []), (.getfield 877, [17, 110, 0]), (.iastore, []), (.iconst 0, []), (.ireturn, [])])]
/-- TowerComputerModel.address(II)I -/
def m_17_134 : List am_B := [
  (false, [(.iload_n 2, []), (.ifCond .le 12, [1]), (.iload_n 2, []), (.iconst 5, []), (.if_icmp .gt 7, [1]), (.iconst 1, []), (.goto 4, [2])]),
  (false, [(.iconst 0, []), (.nop, [2])]),
  (false, [(.istore_n 3, []), (.iconst 0, []), (.istore 4, []), (.iconst 0, []), (.istore 5, []), (.nop, [3])]),
  (true, [(.iload 5, []), (.iload_n 2, []), (.if_icmp .ge 46, [4]), (.iload_n 3, []), (.ifCond .eq 42, [4]), (.aload_n 0, []), (.getfield 13, [17, 2, 1]), (.iload_n 1, []), (.iload 5, []), (.iadd, []), (.iaload, []), (.invokestatic 371, [0, 17, 6, 1, 1, 0, 1]), (.istore_n 3, []), (.bipush 10, []), (.iload 4, []), (.imul, []), (.aload_n 0, []), (.getfield 13, [17, 2, 1]), (.iload_n 1, []), (.iload 5, []), (.iadd, []), (.iaload, []), (.iadd, []), (.bipush 48, []), (.isub, []), (.istore 4, []), (.iinc 5 1, []), (.goto (-46), [3])]),
  (true, [(.iload_n 3, []), (.ifCond .eq 11, [5]), (.iload 4, []), (.sipush 32767, []), (.if_icmp .gt 16, [6]), (.nop, [5])]),
  (false, [(.iload_n 3, []), (.ifCond .ne 14, [7]), (.aload_n 0, []), (.iload_n 1, []), (.iload_n 2, []), (.invokevirtual 868, [1, 17, 130, 3, 1, 0, 1]), (.ifCond .ne 5, [7]), (.nop, [6])]),
  (false, [(.iconst 1, []), (.ireturn, [])]),
  (true, [(.aload_n 0, []), (.getfield 877, [17, 110, 0]), (.sipush 1500, []), (.if_icmp .ne 5, [8]), (.iconst 2, []), (.ireturn, [])]),
  (false, [(.aload_n 0, []), (.getfield 228, [17, 116, 1]), (.aload_n 0, []), (.getfield 877, [17, 110, 0]), (.iconst (-1), []), (.iastore, []), (.iload_n 3, []), (.ifCond .eq 8, [9]), (.iload 4, []), (.goto 9, [10])]),
  (false, [(.aload_n 0, []), (.iload_n 1, []), (.iload_n 2, []), (.invokevirtual 871, [1, 17, 131, 3, 1, 0, 1]), (.nop, [10])]),
  (true, [(.istore 5, []), (.iload 5, []), (.iconst (-1), []), (.if_icmp .ne 33, [11]), (.aload_n 0, []), (.getfield 228, [17, 116, 1]), (.aload_n 0, []), (.getfield 877, [17, 110, 0]), (.aload_n 0, []), (.iload_n 1, []), (.iload_n 2, []), (.invokevirtual 874, [1, 17, 132, 3, 1, 0, 1]), (.iastore, []), (.aload_n 0, []), (.getfield 228, [17, 116, 1]), (.aload_n 0, []), (.getfield 877, [17, 110, 0]), (.iaload, []), (.iconst (-1), []), (.if_icmp .ne 5, [11]), (.iconst 2, []), (.ireturn, [])]),
  (true, [(.aload_n 0, []), (.getfield 216, [17, 111, 1]), (.aload_n 0, []), (.getfield 877, [17, 110, 0]), (.iload 5, []), (.iconst (-1), []), (.if_icmp .ne 7, [12]), (.iconst 0, []), (.goto 5, [13])]),
  (false, [(.iload 5, []), (.nop, [13])]),
  (false, [(.iastore, []), (.aload_n 0, []), (.aload_n 0, []), (.getfield 877, [17, 110, 0]), (.iconst 1, []), (.iadd, []), (.putfield 877, [17, 110, 0]), (.iconst 0, []), (.ireturn, [])])]
/-- TowerComputerModel.compOf(II)I -/
def m_17_135 : List am_B := [
  (false, [(.iload_n 2, []), (.ifCond .le 12, [1]), (.aload_n 0, []), (.getfield 13, [17, 2, 1]), (.iload_n 1, []), (.iaload, []), (.goto 4, [2])]),
  (false, [(.iconst 0, []), (.nop, [2])]),
  (true, [(.istore_n 3, []), (.iload_n 2, []), (.iconst 1, []), (.if_icmp .le 14, [3]), (.aload_n 0, []), (.getfield 13, [17, 2, 1]), (.iload_n 1, []), (.iconst 1, []), (.iadd, []), (.iaload, []), (.goto 4, [4])]),
  (false, [(.iconst 0, []), (.nop, [4])]),
  (true, [(.istore 4, []), (.iload_n 2, []), (.iconst 2, []), (.if_icmp .le 14, [5]), (.aload_n 0, []), (.getfield 13, [17, 2, 1]), (.iload_n 1, []), (.iconst 2, []), (.iadd, []), (.iaload, []), (.goto 4, [6])]),
  (false, [(.iconst 0, []), (.nop, [6])]),
  (true, [(.istore 5, []), (.iload_n 3, []), (.bipush 77, []), (.if_icmp .eq 17, [7]), (.iload 4, []), (.bipush 77, []), (.if_icmp .eq 10, [7]), (.iload 5, []), (.bipush 77, []), (.if_icmp .ne 8, [8]), (.nop, [7])]),
  (false, [(.bipush 64, []), (.goto 4, [9])]),
  (false, [(.iconst 0, []), (.nop, [9])]),
  (false, [(.istore 6, []), (.iload_n 3, []), (.bipush 77, []), (.if_icmp .ne 8, [10]), (.bipush 65, []), (.goto 4, [11])]),
  (false, [(.iload_n 3, []), (.nop, [11])]),
  (true, [(.istore_n 3, []), (.iload 4, []), (.bipush 77, []), (.if_icmp .ne 8, [12]), (.bipush 65, []), (.goto 5, [13])]),
  (false, [(.iload 4, []), (.nop, [13])]),
  (false, [(.istore 4, []), (.iload 5, []), (.bipush 77, []), (.if_icmp .ne 8, [14]), (.bipush 65, []), (.goto 5, [15])]),
  (false, [(.iload 5, []), (.nop, [15])]),
  (true, [(.istore 5, []), (.iconst (-1), []), (.istore 7, []), (.iload_n 2, []), (.iconst 1, []), (.if_icmp .ne 50, [21]), (.iload_n 3, []), (.bipush 48, []), (.if_icmp .ne 8, [16]), (.bipush 42, []), (.goto 37, [20])]),
  (false, [(.iload_n 3, []), (.bipush 49, []), (.if_icmp .ne 8, [17]), (.bipush 63, []), (.goto 26, [20])]),
  (false, [(.iload_n 3, []), (.bipush 68, []), (.if_icmp .ne 8, [18]), (.bipush 12, []), (.goto 15, [20])]),
  (false, [(.iload_n 3, []), (.bipush 65, []), (.if_icmp .ne 8, [19]), (.bipush 48, []), (.goto 4, [20])]),
  (false, [(.iconst (-1), []), (.nop, [20])]),
  (false, [(.istore 7, []), (.nop, [21])]),
  (true, [(.iload_n 2, []), (.iconst 2, []), (.if_icmp .ne 48, [26]), (.iload_n 3, []), (.bipush 45, []), (.if_icmp .ne 42, [26]), (.iload 4, []), (.bipush 49, []), (.if_icmp .ne 8, [22]), (.bipush 58, []), (.goto 28, [25])]),
  (false, [(.iload 4, []), (.bipush 68, []), (.if_icmp .ne 8, [23]), (.bipush 15, []), (.goto 16, [25])]),
  (false, [(.iload 4, []), (.bipush 65, []), (.if_icmp .ne 8, [24]), (.bipush 51, []), (.goto 4, [25])]),
  (false, [(.iconst (-1), []), (.nop, [25])]),
  (false, [(.istore 7, []), (.nop, [26])]),
  (true, [(.iload_n 2, []), (.iconst 2, []), (.if_icmp .ne 36, [30]), (.iload_n 3, []), (.bipush 33, []), (.if_icmp .ne 30, [30]), (.iload 4, []), (.bipush 68, []), (.if_icmp .ne 8, [27]), (.bipush 13, []), (.goto 16, [29])]),
  (false, [(.iload 4, []), (.bipush 65, []), (.if_icmp .ne 8, [28]), (.bipush 49, []), (.goto 4, [29])]),
  (false, [(.iconst (-1), []), (.nop, [29])]),
  (false, [(.istore 7, []), (.nop, [30])]),
  (true, [(.iload_n 2, []), (.iconst 3, []), (.if_icmp .ne 43, [34]), (.iload_n 3, []), (.bipush 68, []), (.if_icmp .ne 37, [34]), (.iload 5, []), (.bipush 49, []), (.if_icmp .ne 30, [34]), (.iload 4, []), (.bipush 43, []), (.if_icmp .ne 8, [31]), (.bipush 31, []), (.goto 16, [33])]),
  (false, [(.iload 4, []), (.bipush 45, []), (.if_icmp .ne 8, [32]), (.bipush 14, []), (.goto 4, [33])]),
  (false, [(.iconst (-1), []), (.nop, [33])]),
  (false, [(.istore 7, []), (.nop, [34])]),
  (true, [(.iload_n 2, []), (.iconst 3, []), (.if_icmp .ne 43, [38]), (.iload_n 3, []), (.bipush 65, []), (.if_icmp .ne 37, [38]), (.iload 5, []), (.bipush 49, []), (.if_icmp .ne 30, [38]), (.iload 4, []), (.bipush 43, []), (.if_icmp .ne 8, [35]), (.bipush 55, []), (.goto 16, [37])]),
  (false, [(.iload 4, []), (.bipush 45, []), (.if_icmp .ne 8, [36]), (.bipush 50, []), (.goto 4, [37])]),
  (false, [(.iconst (-1), []), (.nop, [37])]),
  (false, [(.istore 7, []), (.nop, [38])]),
  (true, [(.iload_n 2, []), (.iconst 3, []), (.if_icmp .ne 65, [44]), (.iload_n 3, []), (.bipush 68, []), (.if_icmp .ne 59, [44]), (.iload 5, []), (.bipush 65, []), (.if_icmp .ne 52, [44]), (.iload 4, []), (.bipush 43, []), (.if_icmp .ne 7, [39]), (.iconst 2, []), (.goto 39, [43])]),
  (false, [(.iload 4, []), (.bipush 45, []), (.if_icmp .ne 8, [40]), (.bipush 19, []), (.goto 27, [43])]),
  (false, [(.iload 4, []), (.bipush 38, []), (.if_icmp .ne 7, [41]), (.iconst 0, []), (.goto 16, [43])]),
  (false, [(.iload 4, []), (.bipush 124, []), (.if_icmp .ne 8, [42]), (.bipush 21, []), (.goto 4, [43])]),
  (false, [(.iconst (-1), []), (.nop, [43])]),
  (false, [(.istore 7, []), (.nop, [44])]),
  (true, [(.iload_n 2, []), (.iconst 3, []), (.if_icmp .ne 31, [47]), (.iload_n 3, []), (.bipush 65, []), (.if_icmp .ne 25, [47]), (.iload 5, []), (.bipush 68, []), (.if_icmp .ne 18, [47]), (.iload 4, []), (.bipush 45, []), (.if_icmp .ne 8, [45]), (.bipush 7, []), (.goto 4, [46])]),
  (false, [(.iconst (-1), []), (.nop, [46])]),
  (true, [(.istore 7, []), (.nop, [47])]),
  (false, [(.iload 7, []), (.iconst (-1), []), (.if_icmp .ne 7, [48]), (.iconst (-1), []), (.goto 8, [49])]),
  (false, [(.iload 7, []), (.iload 6, []), (.iadd, []), (.nop, [49])]),
  (false, [(.ireturn, [])])]
/-- TowerComputerModel.destOf(II)I -/
def m_17_136 : List am_B := [
  (false, [(.aload_n 0, []), (.getstatic 880, [172]), (.iload_n 1, []), (.iload_n 2, []), (.invokevirtual 400, [1, 17, 10, 4, 1, 0, 1]), (.istore_n 3, []), (.iload_n 3, []), (.ifCond .lt 7, [1]), (.iload_n 2, []), (.ifCond .ne 7, [2]), (.nop, [1])]),
  (false, [(.iconst (-1), []), (.goto 9, [3])]),
  (false, [(.bipush 8, []), (.iload_n 3, []), (.iconst 1, []), (.iadd, []), (.imul, []), (.nop, [3])]),
  (false, [(.ireturn, [])])]
/-- TowerComputerModel.computes(II)I -/
def m_17_137 : List am_B := [
  (false, [(.iconst (-1), []), (.istore_n 3, []), (.iconst (-1), []), (.istore 4, []), (.iconst 0, []), (.istore 5, []), (.nop, [1])]),
  (true, [(.iload 5, []), (.iload_n 2, []), (.if_icmp .ge 55, [4]), (.aload_n 0, []), (.getfield 13, [17, 2, 1]), (.iload_n 1, []), (.iload 5, []), (.iadd, []), (.iaload, []), (.bipush 61, []), (.if_icmp .ne 11, [2]), (.iload_n 3, []), (.iconst (-1), []), (.if_icmp .ne 6, [2]), (.iload 5, []), (.istore_n 3, []), (.nop, [2])]),
  (true, [(.aload_n 0, []), (.getfield 13, [17, 2, 1]), (.iload_n 1, []), (.iload 5, []), (.iadd, []), (.iaload, []), (.bipush 59, []), (.if_icmp .ne 13, [3]), (.iload 4, []), (.iconst (-1), []), (.if_icmp .ne 7, [3]), (.iload 5, []), (.istore 4, []), (.nop, [3])]),
  (false, [(.iinc 5 1, []), (.goto (-55), [1])]),
  (false, [(.iload_n 3, []), (.iconst 1, []), (.iadd, []), (.istore 5, []), (.iload 4, []), (.iconst (-1), []), (.if_icmp .ne 7, [5]), (.iload_n 2, []), (.goto 5, [6])]),
  (false, [(.iload 4, []), (.nop, [6])]),
  (true, [(.istore 6, []), (.iload 6, []), (.iload 5, []), (.if_icmp .ge 5, [7]), (.iconst 1, []), (.ireturn, [])]),
  (false, [(.iload_n 3, []), (.iconst (-1), []), (.if_icmp .ne 7, [8]), (.iconst 0, []), (.goto 9, [9])]),
  (false, [(.aload_n 0, []), (.iload_n 1, []), (.iload_n 3, []), (.invokevirtual 883, [1, 17, 136, 3, 1, 0, 1]), (.nop, [9])]),
  (true, [(.istore 7, []), (.aload_n 0, []), (.iload_n 1, []), (.iload 5, []), (.iadd, []), (.iload 6, []), (.iload 5, []), (.isub, []), (.invokevirtual 886, [1, 17, 135, 3, 1, 0, 1]), (.istore 8, []), (.iload 4, []), (.iconst (-1), []), (.if_icmp .ne 7, [10]), (.iconst 0, []), (.goto 24, [11])]),
  (false, [(.iconst 1, []), (.aload_n 0, []), (.getstatic 889, [173]), (.iload_n 1, []), (.iload 4, []), (.iadd, []), (.iconst 1, []), (.iadd, []), (.iload_n 2, []), (.iload 4, []), (.isub, []), (.iconst 1, []), (.isub, []), (.invokevirtual 400, [1, 17, 10, 4, 1, 0, 1]), (.iadd, []), (.nop, [11])]),
  (true, [(.istore 9, []), (.iload 7, []), (.iconst (-1), []), (.if_icmp .eq 31, [12]), (.iload 8, []), (.iconst (-1), []), (.if_icmp .eq 25, [12]), (.iload 4, []), (.iconst (-1), []), (.if_icmp .eq 21, [13]), (.iload 9, []), (.iconst 1, []), (.if_icmp .lt 13, [12]), (.iload_n 2, []), (.iload 4, []), (.isub, []), (.iconst 1, []), (.isub, []), (.iconst 3, []), (.if_icmp .eq 5, [13]), (.nop, [12])]),
  (false, [(.iconst 1, []), (.ireturn, [])]),
  (true, [(.aload_n 0, []), (.getfield 877, [17, 110, 0]), (.sipush 1500, []), (.if_icmp .ne 5, [14]), (.iconst 2, []), (.ireturn, [])]),
  (false, [(.aload_n 0, []), (.getfield 228, [17, 116, 1]), (.aload_n 0, []), (.getfield 877, [17, 110, 0]), (.iconst (-1), []), (.iastore, []), (.aload_n 0, []), (.getfield 216, [17, 111, 1]), (.aload_n 0, []), (.getfield 877, [17, 110, 0]), (.ldc_w 892, [0, 57344]), (.bipush 64, []), (.iload 8, []), (.imul, []), (.iadd, []), (.iload 7, []), (.iadd, []), (.iload 9, []), (.iadd, []), (.iastore, []), (.aload_n 0, []), (.aload_n 0, []), (.getfield 877, [17, 110, 0]), (.iconst 1, []), (.iadd, []), (.putfield 877, [17, 110, 0]), (.iconst 0, []), (.ireturn, [])])]
/-- TowerComputerModel.instruction(IIZ)I -/
def m_17_138 : List am_B := [
  (false, [(.iload_n 3, []), (.ifCond .eq 5, [1]), (.iconst 1, []), (.ireturn, [])]),
  (false, [(.aload_n 0, []), (.getfield 13, [17, 2, 1]), (.iload_n 1, []), (.iaload, []), (.bipush 40, []), (.if_icmp .ne 10, [2]), (.aload_n 0, []), (.iload_n 1, []), (.iload_n 2, []), (.invokevirtual 893, [1, 17, 133, 3, 1, 0, 1]), (.ireturn, [])]),
  (false, [(.aload_n 0, []), (.getfield 13, [17, 2, 1]), (.iload_n 1, []), (.iaload, []), (.bipush 64, []), (.if_icmp .ne 16, [3]), (.aload_n 0, []), (.iload_n 1, []), (.iconst 1, []), (.iadd, []), (.iload_n 2, []), (.iconst 1, []), (.isub, []), (.invokevirtual 896, [1, 17, 134, 3, 1, 0, 1]), (.goto 9, [4])]),
  (false, [(.aload_n 0, []), (.iload_n 1, []), (.iload_n 2, []), (.invokevirtual 899, [1, 17, 137, 3, 1, 0, 1]), (.nop, [4])]),
  (false, [(.ireturn, [])])]
/-- TowerComputerModel.resetProcessor()V -/
def m_17_139 : List am_B := [
  (false, [(.iconst 0, []), (.istore_n 1, []), (.nop, [1])]),
  (true, [(.iload_n 1, []), (.ldc 231, [0, 32768]), (.if_icmp .ge 16, [2]), (.aload_n 0, []), (.getfield 232, [17, 117, 1]), (.iload_n 1, []), (.iconst 0, []), (.iastore, []), (.iinc 1 1, []), (.goto (-16), [1])]),
  (false, [(.aload_n 0, []), (.iconst 0, []), (.putfield 902, [17, 118, 0]), (.aload_n 0, []), (.iconst 0, []), (.putfield 905, [17, 119, 0]), (.aload_n 0, []), (.iconst 0, []), (.putfield 908, [17, 120, 0]), (.aload_n 0, []), (.iconst 0, []), (.putfield 911, [17, 121, 0]), (.aload_n 0, []), (.iconst 0, []), (.putfield 877, [17, 110, 0]), (.aload_n 0, []), (.iconst 0, []), (.putfield 865, [17, 112, 0]), (.return_, [])])]
/-- TowerComputerModel.signs(I)I -/
def m_17_140 : List am_B := [
  (false, [(.aload_n 0, []), (.iload_n 1, []), (.invokevirtual 628, [1, 17, 3, 2, 1, 0, 1]), (.ifCond .ne 5, [1]), (.iconst (-1), []), (.ireturn, [])]),
  (false, [(.aload_n 0, []), (.invokevirtual 914, [1, 17, 139, 1, 0, 0, 1]), (.aload_n 0, []), (.iconst (-1), []), (.putfield 16, [17, 4, 0]), (.iconst 0, []), (.istore_n 2, []), (.iconst 0, []), (.istore_n 3, []), (.nop, [2])]),
  (true, [(.iload_n 3, []), (.aload_n 0, []), (.getfield 364, [17, 3, 0]), (.if_icmp .ge 188, [12]), (.aload_n 0, []), (.getfield 13, [17, 2, 1]), (.iload_n 3, []), (.iaload, []), (.istore 4, []), (.iload 4, []), (.bipush 10, []), (.if_icmp .ne 5, [3]), (.iconst 0, []), (.istore_n 2, []), (.nop, [3])]),
  (true, [(.iload 4, []), (.bipush 10, []), (.if_icmp .eq 11, [4]), (.iload 4, []), (.invokestatic 917, [0, 17, 128, 1, 1, 0, 1]), (.ifCond .eq 10, [5]), (.nop, [4])]),
  (false, [(.iload_n 3, []), (.iconst 1, []), (.iadd, []), (.istore_n 3, []), (.goto (-44), [2])]),
  (false, [(.iload_n 3, []), (.istore 5, []), (.nop, [6])]),
  (true, [(.iload 5, []), (.aload_n 0, []), (.getfield 364, [17, 3, 0]), (.if_icmp .ge 62, [8]), (.aload_n 0, []), (.getfield 13, [17, 2, 1]), (.iload 5, []), (.iaload, []), (.bipush 10, []), (.if_icmp .eq 50, [8]), (.aload_n 0, []), (.getfield 13, [17, 2, 1]), (.iload 5, []), (.iaload, []), (.invokestatic 917, [0, 17, 128, 1, 1, 0, 1]), (.ifCond .ne 37, [8]), (.aload_n 0, []), (.getfield 13, [17, 2, 1]), (.iload 5, []), (.iaload, []), (.bipush 47, []), (.if_icmp .ne 16, [7]), (.aload_n 0, []), (.iload 5, []), (.iconst 1, []), (.iadd, []), (.invokevirtual 377, [1, 17, 4, 2, 1, 0, 1]), (.bipush 47, []), (.if_icmp .eq 12, [8]), (.nop, [7])]),
  (false, [(.iload 5, []), (.iconst 1, []), (.iadd, []), (.istore 5, []), (.goto (-65), [6])]),
  (true, [(.iload 5, []), (.iload_n 3, []), (.if_icmp .ne 29, [10]), (.nop, [9])]),
  (true, [(.iload_n 3, []), (.aload_n 0, []), (.getfield 364, [17, 3, 0]), (.if_icmp .ge (-129), [2]), (.aload_n 0, []), (.getfield 13, [17, 2, 1]), (.iload_n 3, []), (.iaload, []), (.bipush 10, []), (.if_icmp .eq (-140), [2]), (.iload_n 3, []), (.iconst 1, []), (.iadd, []), (.istore_n 3, []), (.goto (-23), [9])]),
  (false, [(.aload_n 0, []), (.iload_n 3, []), (.iload 5, []), (.iload_n 3, []), (.isub, []), (.iload_n 2, []), (.invokevirtual 920, [1, 17, 138, 4, 1, 0, 1]), (.istore 6, []), (.iload 6, []), (.ifCond .le 21, [11]), (.aload_n 0, []), (.iload_n 3, []), (.putfield 16, [17, 4, 0]), (.aload_n 0, []), (.iconst 0, []), (.putfield 877, [17, 110, 0]), (.aload_n 0, []), (.iconst 0, []), (.putfield 865, [17, 112, 0]), (.iload 6, []), (.ireturn, [])]),
  (false, [(.iconst 1, []), (.istore_n 2, []), (.iload 5, []), (.istore_n 3, []), (.goto (-190), [2])]),
  (false, [(.bipush 16, []), (.istore 4, []), (.iconst 0, []), (.istore 5, []), (.nop, [13])]),
  (true, [(.iload 5, []), (.aload_n 0, []), (.getfield 865, [17, 112, 0]), (.if_icmp .ge 38, [16]), (.aload_n 0, []), (.getfield 225, [17, 115, 1]), (.iload 5, []), (.iaload, []), (.iconst (-1), []), (.if_icmp .eq 6, [14]), (.goto 18, [15])]),
  (false, [(.aload_n 0, []), (.getfield 225, [17, 115, 1]), (.iload 5, []), (.iload 4, []), (.iastore, []), (.iload 4, []), (.iconst 1, []), (.iadd, []), (.istore 4, []), (.nop, [15])]),
  (false, [(.iinc 5 1, []), (.goto (-41), [13])]),
  (false, [(.iconst 0, []), (.istore 5, []), (.nop, [17])]),
  (true, [(.iload 5, []), (.aload_n 0, []), (.getfield 877, [17, 110, 0]), (.if_icmp .ge 49, [20]), (.aload_n 0, []), (.getfield 216, [17, 111, 1]), (.iload 5, []), (.aload_n 0, []), (.getfield 228, [17, 116, 1]), (.iload 5, []), (.iaload, []), (.iconst (-1), []), (.if_icmp .ne 13, [18]), (.aload_n 0, []), (.getfield 216, [17, 111, 1]), (.iload 5, []), (.iaload, []), (.goto 15, [19])]),
  (false, [(.aload_n 0, []), (.getfield 225, [17, 115, 1]), (.aload_n 0, []), (.getfield 228, [17, 116, 1]), (.iload 5, []), (.iaload, []), (.iaload, []), (.nop, [19])]),
  (false, [(.iastore, []), (.iinc 5 1, []), (.goto (-52), [17])]),
  (false, [(.iconst 0, []), (.ireturn, [])])]
/-- TowerComputerModel.code(I)I -/
def m_17_141 : List am_B := [
  (false, [(.iload_n 1, []), (.ifCond .lt 11, [1]), (.iload_n 1, []), (.aload_n 0, []), (.getfield 877, [17, 110, 0]), (.if_icmp .lt 7, [2]), (.nop, [1])]),
  (false, [(.iconst (-1), []), (.goto 9, [3])]),
  (false, [(.aload_n 0, []), (.getfield 216, [17, 111, 1]), (.iload_n 1, []), (.iaload, []), (.nop, [3])]),
  (false, [(.ireturn, [])])]
/-- TowerComputerModel.unit(III)I -/
def m_17_142 : List am_B := [
  (false, [(.iload_n 0, []), (.bipush 32, []), (.iand, []), (.ifCond .ne 7, [1]), (.iload_n 1, []), (.goto 4, [2])]),
  (false, [(.iconst 0, []), (.nop, [2])]),
  (false, [(.istore_n 3, []), (.iload_n 0, []), (.bipush 16, []), (.iand, []), (.ifCond .ne 7, [3]), (.iload_n 3, []), (.goto 6, [4])]),
  (false, [(.iload_n 3, []), (.iconst (-1), []), (.ixor, []), (.nop, [4])]),
  (true, [(.istore_n 3, []), (.iload_n 0, []), (.bipush 8, []), (.iand, []), (.ifCond .ne 7, [5]), (.iload_n 2, []), (.goto 4, [6])]),
  (false, [(.iconst 0, []), (.nop, [6])]),
  (false, [(.istore 4, []), (.iload_n 0, []), (.iconst 4, []), (.iand, []), (.ifCond .ne 8, [7]), (.iload 4, []), (.goto 7, [8])]),
  (false, [(.iload 4, []), (.iconst (-1), []), (.ixor, []), (.nop, [8])]),
  (true, [(.istore 4, []), (.iload_n 0, []), (.iconst 2, []), (.iand, []), (.ifCond .ne 10, [9]), (.iload_n 3, []), (.iload 4, []), (.iand, []), (.goto 7, [10])]),
  (false, [(.iload_n 3, []), (.iload 4, []), (.iadd, []), (.nop, [10])]),
  (true, [(.istore 5, []), (.iload_n 0, []), (.iconst 1, []), (.iand, []), (.ifCond .ne 8, [11]), (.iload 5, []), (.goto 7, [12])]),
  (false, [(.iload 5, []), (.iconst (-1), []), (.ixor, []), (.nop, [12])]),
  (false, [(.i2s, []), (.ireturn, [])])]
/-- TowerComputerModel.oneCode()V -/
def m_17_143 : List am_B := [
  (false, [(.aload_n 0, []), (.getfield 216, [17, 111, 1]), (.aload_n 0, []), (.getfield 908, [17, 120, 0]), (.iaload, []), (.istore_n 1, []), (.aload_n 0, []), (.aload_n 0, []), (.getfield 908, [17, 120, 0]), (.iconst 1, []), (.iadd, []), (.putfield 908, [17, 120, 0]), (.aload_n 0, []), (.aload_n 0, []), (.getfield 911, [17, 121, 0]), (.iconst 1, []), (.iadd, []), (.putfield 911, [17, 121, 0]), (.iload_n 1, []), (.ldc 231, [0, 32768]), (.if_icmp .ge 9, [1]), (.aload_n 0, []), (.iload_n 1, []), (.putfield 902, [17, 118, 0]), (.return_, [])]),
  (false, [(.aload_n 0, []), (.getfield 902, [17, 118, 0]), (.sipush 32767, []), (.iand, []), (.istore_n 2, []), (.iload_n 1, []), (.bipush 6, []), (.ishr, []), (.bipush 63, []), (.iand, []), (.aload_n 0, []), (.getfield 905, [17, 119, 0]), (.iload_n 1, []), (.sipush 4096, []), (.iand, []), (.ifCond .ne 10, [2]), (.aload_n 0, []), (.getfield 902, [17, 118, 0]), (.goto 9, [3])]),
  (false, [(.aload_n 0, []), (.getfield 232, [17, 117, 1]), (.iload_n 2, []), (.iaload, []), (.nop, [3])]),
  (false, [(.invokestatic 924, [0, 17, 142, 3, 1, 0, 1]), (.istore_n 3, []), (.iload_n 1, []), (.bipush 8, []), (.iand, []), (.ifCond .eq 10, [4]), (.aload_n 0, []), (.getfield 232, [17, 117, 1]), (.iload_n 2, []), (.iload_n 3, []), (.iastore, []), (.nop, [4])]),
  (true, [(.iload_n 1, []), (.bipush 32, []), (.iand, []), (.ifCond .eq 8, [5]), (.aload_n 0, []), (.iload_n 3, []), (.putfield 902, [17, 118, 0]), (.nop, [5])]),
  (false, [(.iload_n 1, []), (.bipush 16, []), (.iand, []), (.ifCond .eq 8, [6]), (.aload_n 0, []), (.iload_n 3, []), (.putfield 905, [17, 119, 0]), (.nop, [6])]),
  (true, [(.iload_n 3, []), (.ifCond .le 7, [7]), (.iconst 1, []), (.goto 12, [9])]),
  (false, [(.iload_n 3, []), (.ifCond .ne 7, [8]), (.iconst 2, []), (.goto 4, [9])]),
  (false, [(.iconst 4, []), (.nop, [9])]),
  (false, [(.istore 4, []), (.iload_n 1, []), (.iload 4, []), (.iand, []), (.ifCond .eq 8, [10]), (.aload_n 0, []), (.iload_n 2, []), (.putfield 908, [17, 120, 0]), (.nop, [10])]),
  (false, [(.return_, [])])]
